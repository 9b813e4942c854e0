/-! ROWS of the judgement Go over the heap: fields, arrays, new cells, constants, casts, returns -/
set_option maxRecDepth 100000
theorem bp_el {α β : Type} {x : Option β} {K : β → Option α} {z : α} (h : bp x K = some z) : ∃ v, x = some v ∧ K v = some z := by
  cases x with
  | none => cases h
  | some v => exact ⟨v, rfl, h⟩
theorem bd_el {α β : Type} {x : Option (St × β)} {K : St → β → Option α} {z : α} (h : bd x K = some z) : ∃ σ v, x = some (σ, v) ∧ K σ v = some z := by
  cases x with
  | none => cases h
  | some q => exact ⟨q.1, q.2, rfl, h⟩
theorem xN_el {α : Type} {r : Option Nat} {K : Nat → Option α} {z : α} (h : xN r K = some z) : ∃ a, r = some a ∧ K a = some z := by
  cases r with
  | none => cases h
  | some a => exact ⟨a, rfl, h⟩
theorem if_el {α : Type} {b : Bool} {x : Option α} {z : α} (h : (if b then x else none) = some z) : b = true ∧ x = some z := by
  cases b with
  | false => cases h
  | true => exact ⟨rfl, h⟩
theorem ok_el {α : Type} {b : Bool} {x : Option α} {z : α} (h : ok b x = some z) : b = true ∧ x = some z := if_el h
theorem iv_el {α : Type} {σ : St} {c : Nat} {r : Option Nat} {K : Nat → Option α} {z : α} (h : iv σ c r K = some z) : ∃ a, r = some a ∧ σ.ob a = c ∧ K a = some z := by
  obtain ⟨a, e, h⟩ := xN_el h
  obtain ⟨h1, h2⟩ := if_el h
  exact ⟨a, e, of_decide_eq_true h1, h2⟩
theorem pr_el {α β : Type} {a c : α} {b d : β} (h : some (a, b) = some (c, d)) : c = a ∧ d = b := by cases h; exact ⟨rfl, rfl⟩
theorem so_el {α : Type} {a c : α} (h : some a = some c) : c = a := by cases h; rfl
theorem vmok.known {lo a : Nat} {cell : Cell} (h : vmok lo a cell) : cell.vm ≠ .unknown := by
  rcases h with h | h
  · rw [h]; exact fun q => by cases q
  · exact h.2.1
theorem vmok.stat {lo a : Nat} {cell : Cell} (h : vmok lo a cell) : cell.vm.isStatics = false := by
  rcases h with h | h
  · rw [h]; rfl
  · exact h.2.2
theorem vmok.none {lo a : Nat} {cell : Cell} (h : vmok lo a cell) (hl : lo ≤ a) : cell.vm = .none := by
  rcases h with h | h
  · exact h
  · omega
theorem vmok.set {lo a i : Nat} {cell : Cell} {v : Value} (h : vmok lo a cell) : vmok lo a (cell.setSlot i v) := h
theorem cellAt.kept {G : gG} {σ τ : St} {b : Nat} {H H1 : Heap} (h : cellAt G σ b H) (hlo : τ.lo = σ.lo) (hob : τ.ob b = σ.ob b) (hln : τ.ln b = σ.ln b) (h1 : ∀ F, τ.fi F b = σ.fi F b) (h2 : ∀ F, τ.fr F b = σ.fr F b) (h3 : τ.ai b = σ.ai b) (h4 : τ.al b = σ.al b) (h5 : τ.ar b = σ.ar b) (hH : H1[b]? = H[b]?) (hz : H.size ≤ H1.size) : cellAt G τ b H1 := by
  obtain ⟨q1, q2, q3⟩ := h
  refine ⟨fun k ty hk ho => ?_, fun c q hc ho => ?_, fun ho => ?_⟩
  · obtain ⟨cell, r1, r2, r3, r4, r5, r6⟩ := q1 k ty hk (by rw [← hob]; exact ho)
    refine ⟨cell, by rw [hH]; exact r1, r2, by rw [hlo]; exact r3, by rw [hln]; exact r4, fun j hj => ?_, fun e j hj => ?_⟩
    · rw [r5 j (by rw [← hln]; exact hj)]
      simp only [elV, h3, h4, h5]
    · rw [h3]
      exact r6 e j (by rw [← hln]; exact hj)
  · obtain ⟨cell, r1, r2, r3, r4⟩ := q2 c q hc (by rw [← hob]; exact ho)
    refine ⟨cell, by rw [hH]; exact r1, r2, by rw [hlo]; exact r3, fun k hk => ?_⟩
    rw [r4 k hk]
    simp only [fV, h1, h2]
  · exact Nat.lt_of_lt_of_le (q3 (by rw [← hob]; exact ho)) hz
/-- one cell a has changed -/
theorem HR.put {G : gG} {σ τ : St} {H H1 : Heap} {a : Nat} (h : HR G σ H) (hn : τ.nn = σ.nn) (hob : τ.ob = σ.ob) (hln : τ.ln = σ.ln) (hs : ∀ b, b ≠ a → (∀ F, τ.fi F b = σ.fi F b) ∧ (∀ F, τ.fr F b = σ.fr F b) ∧ τ.ai b = σ.ai b ∧ τ.al b = σ.al b ∧ τ.ar b = σ.ar b) (hsz : H1.size = H.size) (ho : ∀ q : Nat, q ≠ a → H1[q]? = H[q]?) (ha : cellAt G τ a H1) : HR G τ H1 := by
  obtain ⟨h1, h2, h3⟩ := h
  have e1 : τ.sz = σ.sz := by simp only [St.sz, hn]
  have e2 : τ.lo = σ.lo := by simp only [St.lo, hn]
  refine ⟨by rw [hsz, e1]; exact h1, by rw [e1, e2]; exact h2, fun b => ?_⟩
  by_cases hb : b = a
  · rw [hb]; exact ha
  · obtain ⟨s1, s2, s3, s4, s5⟩ := hs b hb
    exact (h3 b).kept e2 (by rw [hob]) (by rw [hln]) s1 s2 s3 s4 s5 (ho b hb) (by rw [hsz]; exact Nat.le_refl _)
theorem Ex.put {σ0 σ τ : St} (h : Ex σ0 σ) (hn : τ.nn = σ.nn) (hob : τ.ob = σ.ob) : Ex σ0 τ := by
  obtain ⟨h1, h2, h3, h4, h5, h6⟩ := h
  refine ⟨?_, ?_, ?_, ?_, ?_, ?_⟩
  · simp only [St.lo, hn]; exact h1
  · simp only [St.ks, hn]; exact h2
  · simp only [St.sz, hn]; exact h3
  · simp only [St.sz, St.rc, hn]; exact h4
  · simp only [St.rs, hn]; exact h5
  · rw [hob]; exact h6
section CX
variable {G : gG} {Y : mY} {σ0 : St} {p : Program} {s : State} {m : MethodId} {args : Array Value} {meth : Method} {c : Code}
theorem Cx.own (C : Cx G Y σ0 p s m args meth c) : s.vm.findClass Y.1 = some m.cls := C.2.2.2.2.2.1
theorem Cx.hts (C : Cx G Y σ0 p s m args meth c) : ∀ w ∈ lw_all, w.before args s = true := C.2.2.2.2.2.2.1
theorem Cx.kt (C : Cx G Y σ0 p s m args meth c) : KT G σ0 s := C.2.2.2.2.2.2.2.1
theorem Cx.kz (C : Cx G Y σ0 p s m args meth c) : KZ σ0 s s.heap := C.2.2.2.2.2.2.2.2.1
theorem Cx.size (C : Cx G Y σ0 p s m args meth c) : s.heap.size = σ0.sz := C.2.2.2.2.2.2.2.2.2.1.1
theorem Cx.los (C : Cx G Y σ0 p s m args meth c) : σ0.lo ≤ σ0.sz := C.2.2.2.2.2.2.2.2.2.1.2
theorem Cx.init (C : Cx G Y σ0 p s m args meth c) : Y.2.2.2.2.2.2 = true → meth.name = "<init>" := C.2.2.2.2.2.2.2.2.2.2
end CX
theorem KT.k {G : gG} {σ : St} {s : State} (h : KT G σ s) : va_K (G.1, G.2.1) clG [] s := ⟨h.1, fun k q hk => by simp at hk⟩
theorem KT.apart {G : gG} {σ : St} {s : State} {args : Array Value} (h : KT G σ s) (hts : ∀ w ∈ lw_all, w.before args s = true) {c : Nat} {q : vw_C} (hc : clG[c]? = some q) : ∀ x y, x < q.2.2 → y < q.2.2 → x ≠ y → G.2.1 c x ≠ G.2.1 c y :=
  va_apart (own := "") (D := (G.1, G.2.1)) (ci := c) (cl := clG) hts (clG_in c q hc) (tyG c) (clG_ty c q hc) (clG_nm c q hc) h.k hc
theorem KT.arr {G : gG} {σ : St} {s : State} (h : KT G σ s) {k : Nat} {ty : FieldType} (hk : arrT[k]? = some ty) {cell : Cell} {lo a : Nat} (hc : cell.cls = G.2.2 k) (hv : vmok lo a cell) : s.isArrayOf cell ty := by
  have h1 := (h.2.1 k ty hk).1 0 (fun _ => .null)
  refine ⟨fun q hq => ?_, ?_⟩
  · have h2 := hv.stat
    rw [hq] at h2
    cases h2
  · rw [hc]
    exact h1.2
/-- a field of the table in the machine's tables -/
theorem KT.field {G : gG} {σ : St} {s : State} {args : Array Value} (h : KT G σ s) (hts : ∀ w ∈ lw_all, w.before args s = true) {c : Nat} {q : vw_C} (hc : clG[c]? = some q) {i : Nat} (hi : i < q.2.2) {O f d : String} {fin : Bool} (e : q.2.1 i = (O, f, d, fin)) {ref : String} (hs : ref = O ∨ Cond.sameField ref O f d ∈ lw_all) :
    ∃ (cf : Nat) (kf : Class) (fi : Nat) (fd : Field) (kC : Class), s.fieldFound? ref f d = some (cf, kf, fi, fd) ∧ s.fieldFound? O f d = some (cf, kf, fi, fd) ∧ fd.isStatic = false ∧ fd.slot = G.2.1 c i ∧ s.vm.findClass q.1 = some (G.1 c) ∧ s.vm.classes[G.1 c]? = some kC ∧ kC.kind = .ordinary ∧ (u_lay q.1 q.2.1 i).before args s = true := by
  obtain ⟨hSl, hfc, kC, hkC, hkind⟩ := h.1 c q hc
  obtain ⟨cf, kf, fi, fd, hf, hsl⟩ := hSl i hi
  have hst := (u_facts hfc hkC (u_lays hts (clG_in c q hc) hi) hf).1
  rw [e] at hf
  have hf : s.fieldFound? O f d = some (cf, kf, fi, fd) := hf
  refine ⟨cf, kf, fi, fd, kC, ?_, hf, hst, hsl, hfc, hkC, hkind, hts _ (clG_in c q hc _ (u_in_lay hi))⟩
  rcases hs with rfl | hs
  · exact hf
  · exact u_same (hts _ hs) _ hf
section RW
variable {G : gG} {Y : mY} {σ0 σE σ : St} {rE : Option V3} {pc : Nat} {ls : List (Nat × V3)} {st : List V3} {ζ : Type} {z : ζ}
theorem go_get {F : Nat} {O f d ref : String} {fin : Bool} {idx : Nat} {a : Nat} {v : V3} (hF : FOK F (O, f, d, fin)) (hl : Cond.fieldLink Y.1 idx ref f d ∈ lw_all) (hs : ref = O ∨ Cond.sameField ref O f d ∈ lw_all) (hd : decode Y.2.1 pc = .ok (.getfield idx, 3)) (hb : hasF fidT F (σ.ob a) = true) (hv : fV σ F a = vv v)
    (k : Go G Y σ0 σE rE (pc + 3) ls (v :: st) σ) : Go G Y σ0 σE rE pc ls (rV (some a) :: st) σ := by
  obtain ⟨c', q, i, e1, e2, e3, e4, e5⟩ := hF _ hb
  intro p l e s m args below meth c C H locs lsA hR hX hS hl0
  obtain ⟨cell, g1, g2, g3, g4⟩ := (hR.2.2 a).2.1 c' q e2 e1
  obtain ⟨cf, kf, fi, fd, kC, i1, i2, i3, i4, i5, i6, i7, i8⟩ := C.kt.field C.hts e2 e3 e5 hs
  refine W.getf C.1 C.2.1 C.own (C.hts _ hl) i1 i3 g1 g3.known (v := vv v) ?_ rfl rfl hd (k p l e s m args below meth c C H locs lsA hR hX hS hl0)
  rw [i4, g4 i e3, ← e1, e4, hv]
theorem go_gI {F : Nat} {O f d ref : String} {fin : Bool} {idx : Nat} {r : Option Nat} {K : Int32 → Option ζ} (hF : FOK F (O, f, d, fin)) (hI : ¬ 1000 ≤ F) (hl : Cond.fieldLink Y.1 idx ref f d ∈ lw_all) (hs : ref = O ∨ Cond.sameField ref O f d ∈ lw_all) (hd : decode Y.2.1 pc = .ok (.getfield idx, 3)) (h : gI σ F r K = some z)
    (k : ∀ v, K v = some z → Go G Y σ0 σE rE (pc + 3) ls (iV v :: st) σ) : Go G Y σ0 σE rE pc ls (rV r :: st) σ := by
  obtain ⟨a, rfl, h⟩ := xN_el h
  obtain ⟨hb, h⟩ := if_el h
  exact go_get hF hl hs hd hb (v := iV (σ.fi F a)) (by unfold fV; rw [if_neg hI]; rfl) (k _ h)
theorem go_gR {F : Nat} {O f d ref : String} {fin : Bool} {idx : Nat} {r : Option Nat} {K : Option Nat → Option ζ} (hF : FOK F (O, f, d, fin)) (hI : 1000 ≤ F) (hl : Cond.fieldLink Y.1 idx ref f d ∈ lw_all) (hs : ref = O ∨ Cond.sameField ref O f d ∈ lw_all) (hd : decode Y.2.1 pc = .ok (.getfield idx, 3)) (h : gR σ F r K = some z)
    (k : ∀ v, K v = some z → Go G Y σ0 σE rE (pc + 3) ls (rV v :: st) σ) : Go G Y σ0 σE rE pc ls (rV r :: st) σ := by
  obtain ⟨a, rfl, h⟩ := xN_el h
  obtain ⟨hb, h⟩ := if_el h
  exact go_get hF hl hs hd hb (v := rV (σ.fr F a)) (by unfold fV; rw [if_pos hI]; rfl) (k _ h)
/-- a nest mate's field -/
theorem go_gIN {F : Nat} {O f d host : String} {fin : Bool} {idx : Nat} {r : Option Nat} {K : Int32 → Option ζ} (hF : FOK F (O, f, d, fin)) (hI : ¬ 1000 ≤ F) (hl : (Y.1, idx, O, f, d, host) ∈ nestF) (hd : decode Y.2.1 pc = .ok (.getfield idx, 3)) (h : gI σ F r K = some z)
    (k : ∀ v, K v = some z → Go G Y σ0 σE rE (pc + 3) ls (iV v :: st) σ) : Go G Y σ0 σE rE pc ls (rV r :: st) σ := by
  obtain ⟨a, rfl, h⟩ := xN_el h
  obtain ⟨hb, h⟩ := if_el h
  obtain ⟨c', q, i, e1, e2, e3, e4, e5⟩ := hF _ hb
  intro p l e s m args below meth c C H locs lsA hR hX hS hl0
  obtain ⟨cell, g1, g2, g3, g4⟩ := (hR.2.2 a).2.1 c' q e2 e1
  obtain ⟨cf, kf, fi, fd, kC, i1, i2, i3, i4, i5, i6, i7, i8⟩ := C.kt.field C.hts e2 e3 e5 (Or.inl rfl)
  refine va_Wgetf C.1 C.2.1 C.own (va_Nw.use rfl (C.kt.2.2.2.2.2.2.1 _ hl)) i1 i3 g1 g3.known (v := vv (iV (σ.fi F a))) ?_ rfl rfl hd (k _ h p l e s m args below meth c C H locs lsA hR hX hS hl0)
  rw [i4, g4 i e3, ← e1, e4]
  unfold fV
  rw [if_neg hI]
  rfl
/-- the heap behind a store of a field -/
theorem HR.field {G : gG} {σ τ : St} {H H1 : Heap} {a c i : Nat} {q : vw_C} {v : Value} {cell : Cell} (h : HR G σ H) (hT : ∀ x y, x < q.2.2 → y < q.2.2 → x ≠ y → G.2.1 c x ≠ G.2.1 c y) (hq : clG[c]? = some q) (ho : σ.ob a = c + 5) (hi : i < q.2.2) (hc : H[a]? = some cell) (hc2 : cell.cls = G.1 c) (hc3 : vmok σ.lo a cell) (hc4 : ∀ k : Nat, k < q.2.2 → cell.slots[G.2.1 c k]? = some (fV σ ((fidT (c + 5)).getD k 0) a))
    (hn : τ.nn = σ.nn) (hob : τ.ob = σ.ob) (hln : τ.ln = σ.ln) (hs : ∀ b, b ≠ a → (∀ F, τ.fi F b = σ.fi F b) ∧ (∀ F, τ.fr F b = σ.fr F b) ∧ τ.ai b = σ.ai b ∧ τ.al b = σ.al b ∧ τ.ar b = σ.ar b)
    (hv : fV τ ((fidT (c + 5)).getD i 0) a = v) (hw : ∀ F, F ≠ (fidT (c + 5)).getD i 0 → fV τ F a = fV σ F a) (e1 : H1[a]? = some (cell.setSlot (G.2.1 c i) v)) (hsz : H1.size = H.size) (ho1 : ∀ q : Nat, q ≠ a → H1[q]? = H[q]?) : HR G τ H1 := by
  have e2 : τ.lo = σ.lo := by simp only [St.lo, hn]
  refine h.put hn hob hln hs hsz ho1 ⟨fun k ty hk ho2 => ?_, fun c2 q2 hq2 ho2 => ?_, fun _ => ?_⟩
  · rw [hob, ho] at ho2
    have hk4 : k < 4 := (List.getElem?_eq_some_iff.mp hk).1
    omega
  · rw [hob, ho] at ho2
    obtain rfl : c2 = c := by omega
    obtain rfl : q2 = q := Option.some.inj (hq2.symm.trans hq)
    refine ⟨_, e1, hc2, by rw [e2]; exact hc3, fun k hk => ?_⟩
    rw [t_set (V := fun k => fV σ ((fidT (c2 + 5)).getD k 0) a) hc4 (fun x y hx hy hxy => hT x y hx hy hxy) hi v k hk]
    by_cases hki : k = i
    · subst hki
      simp only [updV, if_true, hv]
    · simp only [updV, if_neg hki]
      rw [hw]
      exact fun he => hki (clG_nd c2 q2 hq k hk i hi he)
  · rw [hsz]
    exact (Array.getElem?_eq_some_iff.mp hc).1
theorem go_put {F : Nat} {O f d ref : String} {fin : Bool} {idx : Nat} {a : Nat} {v : V3} {ty : FieldType} {τ : St} (hF : FOK F (O, f, d, fin)) (hl : Cond.fieldLink Y.1 idx ref f d ∈ lw_all) (hs : ref = O ∨ Cond.sameField ref O f d ∈ lw_all) (hfi : fin = false ∨ (Y.2.2.2.2.2.2 = true ∧ O = Y.1)) (hty : parseFieldDescriptor d = some ty) (hnar : narrow ty (vv v) = vv v) (hfit : fits ty (vv v) = true) (hd : decode Y.2.1 pc = .ok (.putfield idx, 3)) (hb : hasF fidT F (σ.ob a) = true) (hlo : σ.lo ≤ a)
    (hn : τ.nn = σ.nn) (hob : τ.ob = σ.ob) (hln : τ.ln = σ.ln) (hso : ∀ b, b ≠ a → (∀ F, τ.fi F b = σ.fi F b) ∧ (∀ F, τ.fr F b = σ.fr F b) ∧ τ.ai b = σ.ai b ∧ τ.al b = σ.al b ∧ τ.ar b = σ.ar b) (hv : fV τ F a = vv v) (hw : ∀ F2, F2 ≠ F → fV τ F2 a = fV σ F2 a)
    (k : Go G Y σ0 σE rE (pc + 3) ls st τ) : Go G Y σ0 σE rE pc ls (v :: rV (some a) :: st) σ := by
  obtain ⟨c', q, i, e1, e2, e3, e4, e5⟩ := hF _ hb
  intro p l e s m args below meth c C H locs lsA hR hX hS hl0
  obtain ⟨cell, g1, g2, g3, g4⟩ := (hR.2.2 a).2.1 c' q e2 e1
  obtain ⟨cf, kf, fi, fd, kC, i1, i2, i3, i4, i5, i6, i7, i8⟩ := C.kt.field C.hts e2 e3 e5 hs
  have hA : Fre σ0 a := hX.fre (Or.inl ⟨hlo, by rw [e1]; omega⟩)
  have hlt : fd.slot < cell.slots.size := by rw [i4]; exact k2_hasslot (g4 i e3)
  have kk : ∀ H' : Heap, H'[a]? = some (cell.setSlot fd.slot (vv v)) → H'.size = H.size → (∀ q : Nat, q ≠ a → H'[q]? = H[q]?) → W p l e { frames := Y.2.2.2.2.1, cells := σ0.rc, slots := σ0.rs, locals := Y.2.2.2.2.2.1 } s m args below meth c H' (locs ++ [⟨a, fd.slot⟩]) (σ.sz - σ0.sz) (σ0.rs - σ.rs) (MQ below (QE G σ0 σE rE) args s (σE.sz - σ0.sz) (σ0.rs - σE.rs) (Fre σ0)) (F0 m (pc + 3) lsA (mS st)) := by
    intro H' f1 f2 f3
    have hR' : HR G τ H' := hR.field (C.kt.apart C.hts e2) e2 e1 e3 g1 g2 g3 g4 hn hob hln hso (v := vv v) (by rw [← e1, e4]; exact hv) (fun F2 h2 => hw F2 (by rw [← e1, e4] at h2; exact h2)) (by rw [← i4]; exact f1) f2 f3
    have hW := k p l e s m args below meth c C H' (locs ++ [⟨a, fd.slot⟩]) lsA hR' (hX.put hn hob) (hS.put f2 f3 hA) hl0
    have z1 : τ.sz = σ.sz := by simp only [St.sz, hn]
    have z2 : τ.rs = σ.rs := by simp only [St.rs, hn]
    rw [z1, z2] at hW
    exact hW
  cases hfin : fin with
  | false =>
    have hlay : (Cond.lays q.1 O f d).before args s = true := by
      unfold u_lay at i8
      rw [e5, hfin] at i8
      exact i8
    refine W.putK C.1 C.2.1 (f := fd) ⟨C.own, C.hts _ hl, ⟨_, _, _, i1⟩, i3⟩ ?_ g1 (g3.none hlo) hlt rfl rfl hd kk
    rw [g2]
    exact u_store i5 i6 i7 hlay i2 hty hnar hfit
  | true =>
    obtain ⟨hY, hO⟩ : Y.2.2.2.2.2.2 = true ∧ O = Y.1 := by
      rcases hfi with h | h
      · rw [hfin] at h; cases h
      · exact h
    have hlay : (Cond.laysFinal q.1 O f d).before args s = true := by
      unfold u_lay at i8
      rw [e5, hfin] at i8
      exact i8
    have hcf : m.cls = cf := by
      obtain ⟨_, _, c2, _, _, _, -, -, hf2, -, -, -, hown2, -⟩ := Cond.laysFinal_spec hlay
      have e9 : c2 = cf := by have := i2.symm.trans hf2; simp at this; exact this.1.symm
      rw [hO] at hown2
      rw [← e9]
      exact Option.some.inj (C.own.symm.trans hown2)
    refine W.putFinK C.1 C.2.1 C.own (C.hts _ hl) i1 i3 hcf (C.init hY) ?_ g1 (g3.none hlo) hlt rfl rfl hd kk
    rw [g2]
    exact u_fits i5 i6 i7 (Or.inr hlay) i2 hty hnar hfit
theorem go_pI {F : Nat} {O f d ref : String} {fin : Bool} {idx : Nat} {r : Option Nat} {v : Int32} {ty : FieldType} {K : St → Option ζ} (hF : FOK F (O, f, d, fin)) (hI : ¬ 1000 ≤ F) (hl : Cond.fieldLink Y.1 idx ref f d ∈ lw_all) (hs : ref = O ∨ Cond.sameField ref O f d ∈ lw_all) (hfi : fin = false ∨ (Y.2.2.2.2.2.2 = true ∧ O = Y.1)) (hty : parseFieldDescriptor d = some ty) (hnar : narrow ty (.int v) = .int v) (hfit : fits ty (.int v) = true) (hd : decode Y.2.1 pc = .ok (.putfield idx, 3)) (h : pI σ F r v K = some z)
    (k : ∀ τ, K τ = some z → Go G Y σ0 σE rE (pc + 3) ls st τ) : Go G Y σ0 σE rE pc ls (iV v :: rV r :: st) σ := by
  obtain ⟨a, rfl, h⟩ := xN_el h
  obtain ⟨hb, h⟩ := if_el h
  simp only [Bool.and_eq_true, decide_eq_true_eq] at hb
  refine go_put (τ := σ.sI F a v) hF hl hs hfi hty hnar hfit hd hb.1 hb.2 rfl rfl rfl (fun b hb2 => ⟨fun F2 => ?_, fun F2 => rfl, rfl, rfl, rfl⟩) ?_ (fun F2 h2 => ?_) (k _ h)
  · show up2 σ.fi F a v F2 b = _
    unfold up2
    rw [if_neg (fun q => hb2 q.2)]
  · show (if 1000 ≤ F then _ else Value.int (up2 σ.fi F a v F a)) = _
    rw [if_neg hI]
    unfold up2
    rw [if_pos ⟨rfl, rfl⟩]
    rfl
  · show (if 1000 ≤ F2 then va_rf (σ.fr F2 a) else Value.int (up2 σ.fi F a v F2 a)) = (if 1000 ≤ F2 then va_rf (σ.fr F2 a) else Value.int (σ.fi F2 a))
    unfold up2
    rw [if_neg (fun q : F2 = F ∧ a = a => h2 q.1)]
theorem go_pR {F : Nat} {O f d ref : String} {fin : Bool} {idx : Nat} {r v : Option Nat} {ty : FieldType} {K : St → Option ζ} (hF : FOK F (O, f, d, fin)) (hI : 1000 ≤ F) (hl : Cond.fieldLink Y.1 idx ref f d ∈ lw_all) (hs : ref = O ∨ Cond.sameField ref O f d ∈ lw_all) (hfi : fin = false ∨ (Y.2.2.2.2.2.2 = true ∧ O = Y.1)) (hty : parseFieldDescriptor d = some ty) (hrt : (∃ n, ty = .object n) ∨ ∃ t, ty = .array t) (hd : decode Y.2.1 pc = .ok (.putfield idx, 3)) (h : pR σ F r v K = some z)
    (k : ∀ τ, K τ = some z → Go G Y σ0 σE rE (pc + 3) ls st τ) : Go G Y σ0 σE rE pc ls (rV v :: rV r :: st) σ := by
  obtain ⟨a, rfl, h⟩ := xN_el h
  obtain ⟨hb, h⟩ := if_el h
  simp only [Bool.and_eq_true, decide_eq_true_eq] at hb
  have hnar : narrow ty (vv (rV v)) = vv (rV v) := by rcases hrt with ⟨n, rfl⟩ | ⟨t, rfl⟩ <;> rfl
  have hfit : fits ty (vv (rV v)) = true := by rcases hrt with ⟨n, rfl⟩ | ⟨t, rfl⟩ <;> cases v <;> rfl
  refine go_put (τ := σ.sR F a v) hF hl hs hfi hty hnar hfit hd hb.1 hb.2 rfl rfl rfl (fun b hb2 => ⟨fun F2 => rfl, fun F2 => ?_, rfl, rfl, rfl⟩) ?_ (fun F2 h2 => ?_) (k _ h)
  · show up2 σ.fr F a v F2 b = _
    unfold up2
    rw [if_neg (fun q => hb2 q.2)]
  · show (if 1000 ≤ F then va_rf (up2 σ.fr F a v F a) else _) = _
    rw [if_pos hI]
    unfold up2
    rw [if_pos ⟨rfl, rfl⟩]
    rfl
  · show (if 1000 ≤ F2 then va_rf (up2 σ.fr F a v F2 a) else Value.int (σ.fi F2 a)) = (if 1000 ≤ F2 then va_rf (σ.fr F2 a) else Value.int (σ.fi F2 a))
    unfold up2
    rw [if_neg (fun q : F2 = F ∧ a = a => h2 q.1)]
end RW
