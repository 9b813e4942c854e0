/-! ROWS of the judgement Go: calls -/
set_option maxRecDepth 100000
/-- the callee's facts: it isn't a method handle's, it takes n parameters -/
def YOK (y : MethodName) (n : Nat) : Prop := (y.cls ≠ "java/lang/invoke/MethodHandle" ∧ y.cls ≠ "java/lang/invoke/VarHandle") ∧ (parseMethodDescriptor y.desc).map (fun d => d.parameters.length) = some n
theorem YOK.len {y : MethodName} {n : Nat} (h : YOK y n) {sig : MethodDescriptor} (hs : parseMethodDescriptor y.desc = some sig) : n = sig.parameters.length := by
  have h2 := h.2
  rw [hs] at h2
  exact (Option.some.inj h2).symm
section RW
variable {G : gG} {Y : mY} {σ0 σE σ τ : St} {rE rv : Option V3} {pc : Nat} {ls : List (Nat × V3)} {st rest : List V3} {vs : List V3}
theorem pc_blind : FrameBlind (va_Pc (mS vs) (fun U => KT G σ U ∧ KZ σ U U.heap ∧ HR G σ U.heap)) := fun a U g mk h => ⟨h.1, KT.warm (State.WarmedH.refl U) h.2.1, KZ.moved (U := U.calling g mk a) (Vm.Alike.refl U.vm) h.2.2.1, h.2.2.2⟩
section CL
variable {p : Program} {l : Launch} {e : Env} {s : State} {m : MethodId} {args : Array Value} {below : List Frame} {meth : Method} {c : Code} {H : Heap} {locs : List Loc} {lsA : Array Slot} {Yc : mY} {y : MethodName}
theorem Cx.pre (C : Cx G Y σ0 p s m args meth c) (hR : HR G σ H) (hX : Ex σ0 σ) (hS : va_S (Fre σ0) s.heap H locs) : ∀ U : State, U.heap = H → s.WarmedH U.vm → va_Pc (mS vs) (fun U => KT G σ U ∧ KZ σ U U.heap ∧ HR G σ U.heap) (mS vs).toArray U := by
  intro U hU hW
  refine ⟨rfl, (C.kt.warm hW).ks hX.2.1, ?_, by rw [hU]; exact hR⟩
  rw [hU]
  refine ((C.kz.moved hW.alike).kept (fun a h1 h2 => hS.2.1 a h1 (fun q => ?_))).to hX.1 hX.2.1
  rcases q with q | q
  · exact h2 q.1
  · rw [C.size] at h1; omega
theorem go_back (C : Cx G Y σ0 p s m args meth c) (hM : Mt G Yc y vs σ rv τ) (hcode : Cond.code y Yc.2.1 Yc.2.2.1 Yc.2.2.2.1 ∈ lw_all) (hini : Cond.initialized y.cls ∈ lw_all) (hfr : Yc.2.2.2.2.1 + 1 ≤ Y.2.2.2.2.1) (hlo : 8 + (Yc.2.2.1 + 11) + Yc.2.2.2.2.2.1 ≤ Y.2.2.2.2.2.1) :
    Back l { frames := Y.2.2.2.2.1, cells := σ0.rc, slots := σ0.rs, locals := Y.2.2.2.2.2.1 } p e below s args y 3 8 (PreOf { frames := Y.2.2.2.2.1, cells := σ0.rc, slots := σ0.rs, locals := Y.2.2.2.2.2.1 } σ.rc σ.rs (va_Pc (mS vs) (fun U => KT G σ U ∧ KZ σ U U.heap ∧ HR G σ U.heap))) (PostOf (QE G σ τ rv) (τ.sz - σ.sz) (σ.rs - τ.rs) (Fre σ)) := by
  have hws : ∀ w ∈ ws_ y Yc.2.1 Yc.2.2.1 Yc.2.2.2.1, ∀ (a' : Array Value) (U : State), s.WarmedH U.vm → w.before a' U = true := pay_in C.hts (lw_meth hcode)
  refine Back.of_free (S := headSpec (ws_ y Yc.2.1 Yc.2.2.1 Yc.2.2.2.1) { frames := Yc.2.2.2.2.1, cells := σ.rc, slots := σ.rs, locals := Yc.2.2.2.2.2.1 }) (P := va_Pc (mS vs) (fun U => KT G σ U ∧ KZ σ U U.heap ∧ HR G σ U.heap)) (K := fun _ _ _ _ _ => True) (Q := fun a st o t => QE G σ τ rv a st o t ∧ ∃ L, FrameEnd st o t L (τ.sz - σ.sz) (σ.rs - τ.rs) ∧ ∀ q ∈ L, Fre σ q.base) (bytes := Yc.2.1) (maxL := Yc.2.2.1) (ret := Yc.2.2.2.1)
    (E := fun a st o t L k n => k = τ.sz - σ.sz ∧ n = σ.rs - τ.rs ∧ ∀ q ∈ L, Fre σ q.base) (hM l) hfr hlo ?_ ?_ (fun _ _ _ _ _ _ _ _ _ => trivial) ?_ ?_
  · intro m meth c A a X hp
    exact ⟨atoms_intro fun w hw => hws w hw _ _ X.warmed, hws _ List.mem_cons_self _ _ X.warmed, word_at X.warmed (Or.inl (by first | rfl | simp [Cond.onTables, Cond.keeps, Cond.steady])) (C.hts _ hini), hp.1, hp.2.1⟩
  · intro m meth c A a g mk X hp
    exact pc_blind _ _ _ _ hp.2.2
  · intro a st o t ⟨hq, L, hF, hL⟩
    exact ⟨L, _, _, hF, rfl, rfl, hL⟩
  · intro m meth c A a g mk v t L k n X hp hq hF ⟨e1, e2, hL⟩
    subst e1; subst e2
    exact ⟨g, mk, t, L, rfl, rfl, hq.1, rfl, hL, rfl, rfl⟩
/-- behind a call -/
theorem go_after (C : Cx G Y σ0 p s m args meth c) (hR : HR G σ H) (hX : Ex σ0 σ) (hS : va_S (Fre σ0) s.heap H locs) (hl : lv_has lsA Y.2.2.1 (mL ls)) {a : Array Value} {st0 : List Value}
    (hcall : ∀ T : State, T.heap = H → Stand p l e { frames := Y.2.2.2.2.1, cells := σ0.rc, slots := σ0.rs, locals := Y.2.2.2.2.2.1 } s m args below meth c T locs (σ.sz - σ0.sz) (σ0.rs - σ.rs) → ∃ (v : Option Value) (vm₁ : Vm) (B : Pt), s.WarmedH vm₁ ∧ Stand p l e { frames := Y.2.2.2.2.1, cells := σ0.rc, slots := σ0.rs, locals := Y.2.2.2.2.2.1 } s m args below meth c B.U B.locs B.cells B.slots ∧ PostOf (QE G σ τ rv) (τ.sz - σ.sz) (σ.rs - τ.rs) (Fre σ) ⟨T.setVm vm₁, locs, σ.sz - σ0.sz, σ0.rs - σ.rs⟩ a v B ∧
      ∀ target, Steps p.tables e below (B.U.setTop { F0 m pc lsA st0 with pc := pc + 3, stack := v.toList ++ mS rest }) target → Steps p.tables e below (T.setTop (F0 m pc lsA st0)) target)
    (k : Go G Y σ0 σE rE (pc + 3) ls (rv.toList ++ rest) τ) :
    W p l e { frames := Y.2.2.2.2.1, cells := σ0.rc, slots := σ0.rs, locals := Y.2.2.2.2.2.1 } s m args below meth c H locs (σ.sz - σ0.sz) (σ0.rs - σ.rs) (MQ below (QE G σ0 σE rE) args s (σE.sz - σ0.sz) (σ0.rs - σE.rs) (Fre σ0)) (F0 m pc lsA st0) := by
  intro T hT X
  obtain ⟨v, vm₁, ⟨U', l2, c2, s2⟩, hW₁, X', ⟨g', mk, t, L, e1, e2, ⟨hoc, hRτ, hXτ, hz, hk⟩, h1, hL, h2, h3⟩, stp⟩ := hcall T hT X
  dsimp only [Pt.U, Pt.locs, Pt.cells, Pt.slots] at X' e1 e2 h1 h2 h3 stp hz hk
  subst h1; subst h2; subst h3
  have hTH : ((T.setVm vm₁).calling g' mk a).heap = H := hT
  rw [hTH] at hz hk
  cases hoc
  have hSτ : va_S (Fre σ0) s.heap U'.heap (locs ++ L) := by
    refine ⟨by rw [e1]; exact Nat.le_trans hS.1 hz, fun q g1 g2 => ?_, fun q hq => ?_⟩
    · rw [e1, hk q (Nat.lt_of_lt_of_le g1 hS.1) (fun h => g2 (hX.fre h))]
      exact hS.2.1 q g1 g2
    · rcases List.mem_append.mp hq with h | h
      · exact hS.2.2 q h
      · exact hX.fre (hL q h)
  have hW := k p l e s m args below meth c C U'.heap (locs ++ L) lsA (by rw [e1]; exact hRτ) (hX.tr hXτ) hSτ hl
  obtain ⟨x1, x2, x3, x4, x5, x6⟩ := hX
  obtain ⟨y1, y2, y3, y4, y5, y6⟩ := hXτ
  have w1 : τ.sz - σ0.sz = σ.sz - σ0.sz + (τ.sz - σ.sz) := by omega
  have w2 : σ0.rs - τ.rs = σ0.rs - σ.rs + (σ.rs - τ.rs) := by omega
  rw [w1, w2] at hW
  obtain ⟨t2, a1, b1⟩ := hW U' rfl X'
  refine ⟨t2, stp t2 ?_, b1⟩
  have hst : mS (rv.toList ++ rest) = (rv.map vv).toList ++ mS rest := by cases rv <;> rfl
  rw [← hst]
  exact a1
theorem room8 {rest : List V3} {st0 : List Value} (h : (rest.map vc).sum ≤ 8) : 2 * (F0 m pc lsA st0).monitorRoom + ((mS rest).map fun v => v.category).sum ≤ 8 := by
  rw [mS_cat]
  show 2 * 0 + _ ≤ 8
  omega
theorem mS_rev (vs rest : List V3) : mS (vs.reverse ++ rest) = (mS vs).reverse ++ mS rest := by simp [mS]
theorem mS_len (vs : List V3) : (mS vs).length = vs.length := by simp [mS]
theorem Ex.room {σ0 σ : St} (hX : Ex σ0 σ) : σ.sz - σ0.sz + σ.rc ≤ σ0.rc ∧ σ0.rs - σ.rs + σ.rs ≤ σ0.rs := by
  obtain ⟨x1, x2, x3, x4, x5, x6⟩ := hX
  omega
end CL
variable {Yc : mY} {y : MethodName} {idx n : Nat}
/-- a static call, in the class itself or in another -/
theorem go_callS (vs rest : List V3) (hst : vs.reverse ++ rest = st) (hM : Mt G Yc y vs σ rv τ) (hYo : YOK y n) (hn : vs.length = n) (hcode : Cond.code y Yc.2.1 Yc.2.2.1 Yc.2.2.2.1 ∈ lw_all) (hini : Cond.initialized y.cls ∈ lw_all) (hstat : Cond.static y ∈ lw_all) (hl : Cond.methodLink Y.1 idx y ∈ lw_all) (hfr : Yc.2.2.2.2.1 + 1 ≤ Y.2.2.2.2.1) (hlo : 8 + (Yc.2.2.1 + 11) + Yc.2.2.2.2.2.1 ≤ Y.2.2.2.2.2.1) (h8 : (rest.map vc).sum ≤ 8) (hd : decode Y.2.1 pc = .ok (.invokestatic idx, 3))
    {st2 : List V3} (hst2 : rv.toList ++ rest = st2) (k : Go G Y σ0 σE rE (pc + 3) ls st2 τ) : Go G Y σ0 σE rE pc ls st σ := by
  subst hst
  subst hst2
  intro p l e s m args below meth c C H locs lsA hR hX hS hl0
  rw [mS_rev]
  exact go_after C hR hX hS hl0 (fun T hT X => callS X C.1 C.own (C.hts _ hl) (C.hts _ hstat) (C.hts _ hini) (C.hts _ hcode) hYo.1 (go_back C hM hcode hini hfr hlo) (g := F0 m pc lsA ((mS vs).reverse ++ mS rest)) rfl (hl0.1.trans C.2.2.2.2.1.symm) (argsL := mS vs) (rest := mS rest) (fun sig hs => by rw [mS_len, hn]; exact hYo.len hs) rfl (room8 h8) (by rw [C.2.1]; exact hd)
    (fun vm₁ hW₁ => ⟨hX.room.1, hX.room.2, C.pre hR hX hS (T.setVm vm₁) hT hW₁⟩)) k
theorem go_callSN {host : String} (vs rest : List V3) (hst : vs.reverse ++ rest = st) (hM : Mt G Yc y vs σ rv τ) (hYo : YOK y n) (hn : vs.length = n) (hcode : Cond.code y Yc.2.1 Yc.2.2.1 Yc.2.2.2.1 ∈ lw_all) (hini : Cond.initialized y.cls ∈ lw_all) (hstat : Cond.static y ∈ lw_all) (hl : (Y.1, idx, y, host) ∈ nestM) (hfr : Yc.2.2.2.2.1 + 1 ≤ Y.2.2.2.2.1) (hlo : 8 + (Yc.2.2.1 + 11) + Yc.2.2.2.2.2.1 ≤ Y.2.2.2.2.2.1) (h8 : (rest.map vc).sum ≤ 8) (hd : decode Y.2.1 pc = .ok (.invokestatic idx, 3))
    {st2 : List V3} (hst2 : rv.toList ++ rest = st2) (k : Go G Y σ0 σE rE (pc + 3) ls st2 τ) : Go G Y σ0 σE rE pc ls st σ := by
  subst hst
  subst hst2
  intro p l e s m args below meth c C H locs lsA hR hX hS hl0
  rw [mS_rev]
  exact go_after C hR hX hS hl0 (fun T hT X => va_callSN X C.1 C.own (va_Nw.use rfl (C.kt.2.2.2.2.2.1 _ hl)) (C.hts _ hstat) (C.hts _ hini) (C.hts _ hcode) hYo.1 (go_back C hM hcode hini hfr hlo) (g := F0 m pc lsA ((mS vs).reverse ++ mS rest)) rfl (hl0.1.trans C.2.2.2.2.1.symm) (argsL := mS vs) (rest := mS rest) (fun sig hs => by rw [mS_len, hn]; exact hYo.len hs) rfl (room8 h8) (by rw [C.2.1]; exact hd)
    (fun vm₁ hW₁ => ⟨hX.room.1, hX.room.2, C.pre hR hX hS (T.setVm vm₁) hT hW₁⟩)) k
/-- a constructor's call -/
theorem go_callI (b : Nat) (vs rest : List V3) (hst : vs.reverse ++ rV (some b) :: rest = st) (hM : Mt G Yc y (rV (some b) :: vs) σ rv τ) (hYo : YOK y n) (hn : vs.length = n) (hy1 : y.name = "<init>") (hcode : Cond.code y Yc.2.1 Yc.2.2.1 Yc.2.2.2.1 ∈ lw_all) (hret : Yc.2.2.2.1 = none) (hini : Cond.initialized y.cls ∈ lw_all) (hinst : Cond.instanceMethod y ∈ lw_all) (hl : Cond.methodLink Y.1 idx y ∈ lw_all) (hfr : Yc.2.2.2.2.1 + 1 ≤ Y.2.2.2.2.1) (hlo : 8 + (Yc.2.2.1 + 11) + Yc.2.2.2.2.2.1 ≤ Y.2.2.2.2.2.1) (h8 : (rest.map vc).sum ≤ 8) (hd : decode Y.2.1 pc = .ok (.invokespecial idx, 3))
    {st2 : List V3} (hst2 : rv.toList ++ rest = st2) (k : Go G Y σ0 σE rE (pc + 3) ls st2 τ) : Go G Y σ0 σE rE pc ls st σ := by
  subst hst
  subst hst2
  intro p l e s m args below meth c C H locs lsA hR hX hS hl0
  rw [mS_rev]
  exact go_after C hR hX hS hl0 (fun T hT X => callI X C.1 C.own hy1 (C.hts _ hl) (C.hts _ hinst) (C.hts _ (hret ▸ hcode)) hYo.1 (go_back C hM hcode hini hfr hlo) (g := F0 m pc lsA ((mS vs).reverse ++ .ref b :: mS rest)) rfl (hl0.1.trans C.2.2.2.2.1.symm) (a := b) (argsL := mS vs) (rest := mS rest) (fun sig hs => by rw [mS_len, hn]; exact hYo.len hs) rfl (room8 h8) (by rw [C.2.1]; exact hd)
    (fun vm₁ hW₁ => ⟨hX.room.1, hX.room.2, C.pre hR hX hS (T.setVm vm₁) hT hW₁⟩)) k
theorem go_callIN {host : String} (b : Nat) (vs rest : List V3) (hst : vs.reverse ++ rV (some b) :: rest = st) (hM : Mt G Yc y (rV (some b) :: vs) σ rv τ) (hYo : YOK y n) (hn : vs.length = n) (hy1 : y.name = "<init>") (hcode : Cond.code y Yc.2.1 Yc.2.2.1 Yc.2.2.2.1 ∈ lw_all) (hret : Yc.2.2.2.1 = none) (hini : Cond.initialized y.cls ∈ lw_all) (hinst : Cond.instanceMethod y ∈ lw_all) (hl : (Y.1, idx, y, host) ∈ nestM) (hfr : Yc.2.2.2.2.1 + 1 ≤ Y.2.2.2.2.1) (hlo : 8 + (Yc.2.2.1 + 11) + Yc.2.2.2.2.2.1 ≤ Y.2.2.2.2.2.1) (h8 : (rest.map vc).sum ≤ 8) (hd : decode Y.2.1 pc = .ok (.invokespecial idx, 3))
    {st2 : List V3} (hst2 : rv.toList ++ rest = st2) (k : Go G Y σ0 σE rE (pc + 3) ls st2 τ) : Go G Y σ0 σE rE pc ls st σ := by
  subst hst
  subst hst2
  intro p l e s m args below meth c C H locs lsA hR hX hS hl0
  rw [mS_rev]
  exact go_after C hR hX hS hl0 (fun T hT X => va_callIN X C.1 C.own hy1 (va_Nw.use rfl (C.kt.2.2.2.2.2.1 _ hl)) (C.hts _ hinst) (C.hts _ (hret ▸ hcode)) hYo.1 (go_back C hM hcode hini hfr hlo) (g := F0 m pc lsA ((mS vs).reverse ++ .ref b :: mS rest)) rfl (hl0.1.trans C.2.2.2.2.1.symm) (a := b) (argsL := mS vs) (rest := mS rest) (fun sig hs => by rw [mS_len, hn]; exact hYo.len hs) rfl (room8 h8) (by rw [C.2.1]; exact hd)
    (fun vm₁ hW₁ => ⟨hX.room.1, hX.room.2, C.pre hR hX hS (T.setVm vm₁) hT hW₁⟩)) k
/-- a virtual call on an object of the class that has the method -/
theorem go_callV {c0 : Nat} {q : vw_C} (b : Nat) (vs rest : List V3) (hst : vs.reverse ++ rV (some b) :: rest = st) (hq : clG[c0]? = some q) (hob : σ.ob b = c0 + 5) (hM : Mt G Yc y (rV (some b) :: vs) σ rv τ) (hYo : YOK y n) (hn : vs.length = n) (hcode : Cond.code y Yc.2.1 Yc.2.2.1 Yc.2.2.2.1 ∈ lw_all) (hini : Cond.initialized y.cls ∈ lw_all) (hinst : Cond.instanceMethod y ∈ lw_all) (hsel : Cond.selects q.1 y y ∈ lw_all) (hl : Cond.methodLink Y.1 idx y ∈ lw_all) (hfr : Yc.2.2.2.2.1 + 1 ≤ Y.2.2.2.2.1) (hlo : 8 + (Yc.2.2.1 + 11) + Yc.2.2.2.2.2.1 ≤ Y.2.2.2.2.2.1) (h8 : (rest.map vc).sum ≤ 8) (hd : decode Y.2.1 pc = .ok (.invokevirtual idx, 3))
    {st2 : List V3} (hst2 : rv.toList ++ rest = st2) (k : Go G Y σ0 σE rE (pc + 3) ls st2 τ) : Go G Y σ0 σE rE pc ls st σ := by
  subst hst
  subst hst2
  intro p l e s m args below meth c C H locs lsA hR hX hS hl0
  obtain ⟨cellB, b1, b2, b3⟩ := hR.obj C.kt hq hob
  rw [mS_rev]
  exact go_after C hR hX hS hl0 (fun T hT X => callV X C.1 C.own (C.hts _ hl) (C.hts _ hinst) (C.hts _ hsel) (C.hts _ hcode) hYo.1 (go_back C hM hcode hini hfr hlo) (by rw [hT]; exact b1) b2 b3 (g := F0 m pc lsA ((mS vs).reverse ++ .ref b :: mS rest)) rfl (hl0.1.trans C.2.2.2.2.1.symm) (argsL := mS vs) (rest := mS rest) (fun sig hs => by rw [mS_len, hn]; exact hYo.len hs) rfl (room8 h8) (by rw [C.2.1]; exact hd)
    (fun vm₁ hW₁ => ⟨hX.room.1, hX.room.2, C.pre hR hX hS (T.setVm vm₁) hT hW₁⟩)) k
/-- a virtual call by the name x of a class above (found in owner), that comes to y -/
theorem go_callU {c0 : Nat} {q : vw_C} {x : MethodName} {owner : String} (b : Nat) (vs rest : List V3) (hst : vs.reverse ++ rV (some b) :: rest = st) (hq : clG[c0]? = some q) (hob : σ.ob b = c0 + 5) (hM : Mt G Yc y (rV (some b) :: vs) σ rv τ) (hYo : YOK x n) (hn : vs.length = n) (hcode : Cond.code y Yc.2.1 Yc.2.2.1 Yc.2.2.2.1 ∈ lw_all) (hini : Cond.initialized y.cls ∈ lw_all) (hinst : Cond.instanceMethod y ∈ lw_all) (hsame : Cond.sameMethod x.cls owner x.name x.desc ∈ lw_all) (how : owner ≠ "java/lang/invoke/MethodHandle" ∧ owner ≠ "java/lang/invoke/VarHandle")
    {bx : ByteArray} {mx : Nat} {rx : Option FieldType} (hdi : Cond.instanceMethod ⟨owner, x.name, x.desc⟩ ∈ lw_all) (hdc : Cond.code ⟨owner, x.name, x.desc⟩ bx mx rx ∈ lw_all) (hsel : Cond.selects q.1 x y ∈ lw_all) (hl : Cond.methodLink Y.1 idx x ∈ lw_all) (hfr : Yc.2.2.2.2.1 + 1 ≤ Y.2.2.2.2.1) (hlo : 8 + (Yc.2.2.1 + 11) + Yc.2.2.2.2.2.1 ≤ Y.2.2.2.2.2.1) (h8 : (rest.map vc).sum ≤ 8) (hd : decode Y.2.1 pc = .ok (.invokevirtual idx, 3))
    {st2 : List V3} (hst2 : rv.toList ++ rest = st2) (k : Go G Y σ0 σE rE (pc + 3) ls st2 τ) : Go G Y σ0 σE rE pc ls st σ := by
  subst hst
  subst hst2
  intro p l e s m args below meth c C H locs lsA hR hX hS hl0
  obtain ⟨cellB, b1, b2, b3⟩ := hR.obj C.kt hq hob
  rw [mS_rev]
  exact go_after C hR hX hS hl0 (fun T hT X => va_callVU X C.1 C.own (C.hts _ hl) (C.hts _ hsame) (va_Decl.of (C.hts _ hdi) (C.hts _ hdc)) how (C.hts _ hsel) (C.hts _ hinst) (C.hts _ hcode) (go_back C hM hcode hini hfr hlo) (by rw [hT]; exact b1) b2 b3 (g := F0 m pc lsA ((mS vs).reverse ++ .ref b :: mS rest)) rfl (hl0.1.trans C.2.2.2.2.1.symm) (argsL := mS vs) (rest := mS rest) (fun sig hs => by rw [mS_len, hn]; exact hYo.len hs) rfl (room8 h8) (by rw [C.2.1]; exact hd)
    (fun vm₁ hW₁ => ⟨hX.room.1, hX.room.2, C.pre hR hX hS (T.setVm vm₁) hT hW₁⟩)) k
/-- super.y(..) -/
theorem go_callSU {c0 : Nat} {q : vw_C} (b : Nat) (vs rest : List V3) (hst : vs.reverse ++ rV (some b) :: rest = st) (hq : clG[c0]? = some q) (hob : σ.ob b = c0 + 5) (hM : Mt G Yc y (rV (some b) :: vs) σ rv τ) (hYo : YOK y n) (hn : vs.length = n) (hcode : Cond.code y Yc.2.1 Yc.2.2.1 Yc.2.2.2.1 ∈ lw_all) (hini : Cond.initialized y.cls ∈ lw_all) (hinst : Cond.instanceMethod y ∈ lw_all) (hsame : Cond.sameMethod y.cls y.cls y.name y.desc ∈ lw_all) (hsup : Cond.superclass Y.1 y.cls ∈ lw_all) (hno : y.name ≠ "<init>") (hl : Cond.methodLink Y.1 idx y ∈ lw_all) (hfr : Yc.2.2.2.2.1 + 1 ≤ Y.2.2.2.2.1) (hlo : 8 + (Yc.2.2.1 + 11) + Yc.2.2.2.2.2.1 ≤ Y.2.2.2.2.2.1) (h8 : (rest.map vc).sum ≤ 8) (hd : decode Y.2.1 pc = .ok (.invokespecial idx, 3))
    {st2 : List V3} (hst2 : rv.toList ++ rest = st2) (k : Go G Y σ0 σE rE (pc + 3) ls st2 τ) : Go G Y σ0 σE rE pc ls st σ := by
  subst hst
  subst hst2
  intro p l e s m args below meth c C H locs lsA hR hX hS hl0
  obtain ⟨cellB, b1, b2, b3⟩ := hR.obj C.kt hq hob
  obtain ⟨kB, hkB, -⟩ := Vm.findClass_spec b3
  rw [mS_rev]
  exact go_after C hR hX hS hl0 (fun T hT X => va_callSU X C.1 C.own (C.hts _ hl) (C.hts _ hsame) (C.hts _ hsup) (C.hts _ hinst) (C.hts _ hcode) hno (go_back C hM hcode hini hfr hlo) (by rw [hT]; exact b1) b2 hkB (g := F0 m pc lsA ((mS vs).reverse ++ .ref b :: mS rest)) rfl (hl0.1.trans C.2.2.2.2.1.symm) (argsL := mS vs) (rest := mS rest) (fun sig hs => by rw [mS_len, hn]; exact hYo.len hs) rfl (room8 h8) (by rw [C.2.1]; exact hd)
    (fun vm₁ hW₁ => ⟨hX.room.1, hX.room.2, C.pre hR hX hS (T.setVm vm₁) hT hW₁⟩)) k
end RW
