/-! ROWS of the judgement Go: constants, casts, returns, a method's start, calls -/
set_option maxRecDepth 100000
section RW
variable {G : gG} {Y : mY} {σ0 σE σ : St} {rE : Option V3} {pc : Nat} {ls : List (Nat × V3)} {st : List V3} {ζ : Type} {z : ζ}
theorem go_gsR {idx i : Nat} {O f d ref : String} (hq : (O, f, d, i) ∈ statR) (hl : Cond.fieldLink Y.1 idx ref f d ∈ lw_all) (hs : ref = O) (hd : decode Y.2.1 pc = .ok (.getstatic idx, 3)) (k : Go G Y σ0 σE rE (pc + 3) ls (rV (σ.ks i) :: st) σ) : Go G Y σ0 σE rE pc ls st σ := by
  intro p l e s m args below meth c C H locs lsA hR hX hS hl0
  have hZ := (C.kz.1 _ hq).narrow (B := Fre σ0) (fun q hq => by
    rcases hq with h | h
    · exact h.1
    · exact Nat.le_trans C.los h)
  rw [← hX.2.1] at hZ
  subst hs
  exact va_gets C.1 C.2.1 hZ hS C.own (C.hts _ hl) (fun _ h => h) hd (k p l e s m args below meth c C H locs lsA hR hX hS hl0)
theorem go_gsI {idx : Nat} {v : Int32} {O f d ref : String} (hq : (O, f, d, v) ∈ statI) (hl : Cond.fieldLink Y.1 idx ref f d ∈ lw_all) (hs : ref = O) (hd : decode Y.2.1 pc = .ok (.getstatic idx, 3)) (k : Go G Y σ0 σE rE (pc + 3) ls (iV v :: st) σ) : Go G Y σ0 σE rE pc ls st σ := by
  intro p l e s m args below meth c C H locs lsA hR hX hS hl0
  have hZ := (C.kz.2 _ hq).narrow (B := Fre σ0) (fun q hq => by
    rcases hq with h | h
    · exact h.1
    · exact Nat.le_trans C.los h)
  subst hs
  exact va_gets C.1 C.2.1 hZ hS C.own (C.hts _ hl) (fun _ h => h) hd (k p l e s m args below meth c C H locs lsA hR hX hS hl0)
theorem go_ldcS {idx i : Nat} {tx : String} (hq : (Y.1, idx, tx, i) ∈ strU) (hd : decode Y.2.1 pc = .ok (.ldc idx, 2)) (k : Go G Y σ0 σE rE (pc + 2) ls (rV (σ.ks i) :: st) σ) : Go G Y σ0 σE rE pc ls st σ := by
  intro p l e s m args below meth c C H locs lsA hR hX hS hl0
  obtain ⟨a, e1, e2⟩ := C.kt.2.2.2.1 _ hq
  have hW := k p l e s m args below meth c C H locs lsA hR hX hS hl0
  rw [hX.2.1, e1] at hW
  exact va_ldcS C.1 C.2.1 C.own e2 hd hW
theorem Stand.ldcwStr {p : Program} {l : Launch} {e : Env} {R : Room} {s : State} {m : MethodId} {args : Array Value} {below : List Frame} {meth : Method} {c : Code} {T : State} {locs : List Loc} {cells slots : Nat}
    (X : Stand p l e R s m args below meth c T locs cells slots) (hexec : p.tables.exec = Jvm.exec) {own text : String} {index : Nat} {a : Addr} (hown : s.vm.findClass own = some m.cls)
    (hconst : (Cond.stringRef own index text).before args s = true) (hev : (Term.string own index).eval args s none [] s = some (.ref a)) {g : JFrame} (hg : g.method = m) (hdg : decode c.code g.pc = .ok (.ldc_w index, 3)) :
    ∀ target, Steps p.tables e below (T.setTop { g with pc := g.pc + 3, stack := .ref a :: g.stack }) target → Steps p.tables e below (T.setTop g) target := by
  obtain ⟨k, cf, i, a', hk, hcf, hcp, -, hr, hev'⟩ := Cond.stringRef_spec hown hconst
  cases hev.symm.trans hev'
  obtain ⟨k', hk', he⟩ := X.warmed.alike.2.2 _ _ hk
  have hr' : k'.resolved[index]? = some (some (.string a)) := by
    rcases X.warmed.entry hk hk' index with h | ⟨h, -⟩
    · rw [h]; exact hr
    · rw [hr] at h; cases h
  intro target hrest
  subst hg
  jvm_step X.here [hexec, hdg, ldc_w.wp_string (e := e) (s := T) (f := g) X.here.top hk' (by rw [he]; exact hcf) hcp hr']
  exact hrest
theorem go_ldcwS {idx i : Nat} {tx : String} (hq : (Y.1, idx, tx, i) ∈ strU) (hd : decode Y.2.1 pc = .ok (.ldc_w idx, 3)) (k : Go G Y σ0 σE rE (pc + 3) ls (rV (σ.ks i) :: st) σ) : Go G Y σ0 σE rE pc ls st σ := by
  intro p l e s m args below meth c C H locs lsA hR hX hS hl0
  obtain ⟨a, e1, e2⟩ := C.kt.2.2.2.1 _ hq
  have hW := k p l e s m args below meth c C H locs lsA hR hX hS hl0
  rw [hX.2.1, e1] at hW
  intro T hT X
  obtain ⟨t, a1, b1⟩ := hW T hT X
  exact ⟨t, Stand.ldcwStr X C.1 C.own e2.1 e2.2 (g := F0 m pc lsA (mS st)) rfl (by rw [C.2.1]; exact hd) t a1, b1⟩
/-- the kinds cs can all be cast to nm -/
def castOK (nm : String) (cs : List Nat) : Bool := cs.all fun o => match clG[o - 5]? with
  | none => false
  | some q => decide (5 ≤ o) && (decide (q.1 = nm) || castU.contains (q.1, nm))
theorem castOK_el {nm : String} {cs : List Nat} {o : Nat} (h : castOK nm cs = true) (ho : cs.contains o = true) : ∃ c q, o = c + 5 ∧ clG[c]? = some q ∧ (q.1 = nm ∨ (q.1, nm) ∈ castU) := by
  have hm : o ∈ cs := by simpa using ho
  have h1 := List.all_eq_true.mp h o hm
  cases hq : clG[o - 5]? with
  | none => rw [hq] at h1; cases h1
  | some q =>
    rw [hq] at h1
    simp only [Bool.and_eq_true, Bool.or_eq_true, decide_eq_true_eq, List.contains_iff_mem] at h1
    exact ⟨o - 5, q, by omega, hq, h1.2⟩
theorem go_cast {idx : Nat} {nm : String} {cs : List Nat} {r : Option Nat} {K : Option ζ} (hc : castOK nm cs = true) (hl : Cond.classLink Y.1 idx nm ∈ lw_all) (hd : decode Y.2.1 pc = .ok (.checkcast idx, 3)) (h : ck σ cs r K = some z) (k : K = some z → Go G Y σ0 σE rE (pc + 3) ls (rV r :: st) σ) : Go G Y σ0 σE rE pc ls (rV r :: st) σ := by
  obtain ⟨a, ea, h1⟩ := xN_el h
  subst ea
  obtain ⟨hb, h2⟩ := if_el h1
  obtain ⟨c1, q, e1, e2, e3⟩ := castOK_el hc hb
  intro p l e s m args below meth c C H locs lsA hR hX hS hl0
  have hr := hR.obj C.kt e2 e1
  have hW := k h2 p l e s m args below meth c C H locs lsA hR hX hS hl0
  rcases e3 with e3 | e3
  · rw [e3] at hr
    exact va_castE C.1 C.2.1 C.own (C.hts _ hl) hr hd hW
  · exact va_castY C.1 C.2.1 C.own (C.hts _ hl) (C.kt.2.2.1 _ e3) hr hd hW
theorem go_inst {idx : Nat} {nm : String} {cs : List Nat} {r : Option Nat} {K : Option ζ} (hc : castOK nm cs = true) (hl : Cond.classLink Y.1 idx nm ∈ lw_all) (hd : decode Y.2.1 pc = .ok (.instanceof idx, 3)) (h : ck σ cs r K = some z) (k : K = some z → Go G Y σ0 σE rE (pc + 3) ls (iV 1 :: st) σ) : Go G Y σ0 σE rE pc ls (rV r :: st) σ := by
  obtain ⟨a, ea, h1⟩ := xN_el h
  subst ea
  obtain ⟨hb, h2⟩ := if_el h1
  obtain ⟨c1, q, e1, e2, e3⟩ := castOK_el hc hb
  intro p l e s m args below meth c C H locs lsA hR hX hS hl0
  have hr := hR.obj C.kt e2 e1
  have hW := k h2 p l e s m args below meth c C H locs lsA hR hX hS hl0
  rcases e3 with e3 | e3
  · rw [e3] at hr
    exact va_instE C.1 C.2.1 C.own (C.hts _ hl) hr hd hW
  · exact va_instY C.1 C.2.1 C.own (C.hts _ hl) (C.kt.2.2.1 _ e3) hr hd hW
/-! ## returns -/
theorem go_q {t s : State} {H : Heap} {locs : List Loc} {oc : Outcome} (hoc : oc = .returned (rE.map vv)) (hR : HR G σ H) (hX : Ex σ0 σ) (hS : va_S (Fre σ0) s.heap H locs) (ht : t.heap = H) {args : Array Value} : QE G σ0 σ rE args s oc t := ⟨hoc, by rw [ht]; exact hR, hX, hS.F ht⟩
theorem go_iret {v : Int32} (hr : Y.2.2.2.1 = some .int) (hd : decode Y.2.1 pc = .ok (.ireturn, 1)) : Go G Y σ0 σ (some (iV v)) pc ls [iV v] σ := by
  intro p l e s m args below meth c C H locs lsA hR hX hS hl0
  exact W.iret (v := v) C.1 C.2.1 (C.2.2.1.trans hr) (fun t ht _ => go_q rfl hR hX hS ht) hS.2.2 hd C.2.2.2.1
theorem go_zret {v : Int32} {ty : FieldType} (hr : Y.2.2.2.1 = some ty) (hn : narrow ty (.int v) = .int v) (hd : decode Y.2.1 pc = .ok (.ireturn, 1)) : Go G Y σ0 σ (some (iV v)) pc ls [iV v] σ := by
  intro p l e s m args below meth c C H locs lsA hR hX hS hl0
  exact W.zret (v := v) C.1 C.2.1 (C.2.2.1.trans hr) hn (fun t ht _ => go_q rfl hR hX hS ht) hS.2.2 hd C.2.2.2.1
theorem go_lret {v : Int64} (hr : Y.2.2.2.1 = some .long) (hd : decode Y.2.1 pc = .ok (.lreturn, 1)) : Go G Y σ0 σ (some (lV v)) pc ls [lV v] σ := by
  intro p l e s m args below meth c C H locs lsA hR hX hS hl0
  exact W.lret (v := v) C.1 C.2.1 (C.2.2.1.trans hr) (fun t ht _ => go_q rfl hR hX hS ht) hS.2.2 hd C.2.2.2.1
theorem go_aret {v : Option Nat} {rt : FieldType} (hr : Y.2.2.2.1 = some rt) (hrt : (∃ n, rt = .object n) ∨ ∃ t, rt = .array t) (hd : decode Y.2.1 pc = .ok (.areturn, 1)) : Go G Y σ0 σ (some (rV v)) pc ls [rV v] σ := by
  intro p l e s m args below meth c C H locs lsA hR hX hS hl0
  exact W.aret (v := va_rf v) C.1 C.2.1 (C.2.2.1.trans hr) hrt (va_rf_or v) (fun t ht _ => go_q rfl hR hX hS ht) hS.2.2 hd C.2.2.2.1
theorem go_vret (hr : Y.2.2.2.1 = none) (hd : decode Y.2.1 pc = .ok (.return_, 1)) : Go G Y σ0 σ none pc ls [] σ := by
  intro p l e s m args below meth c C H locs lsA hR hX hS hl0
  exact W.vret C.1 C.2.1 (C.2.2.1.trans hr) (fun t ht _ => go_q rfl hR hX hS ht) hS.2.2 hd C.2.2.2.1
theorem okZ_nar {v : Int32} (h : okZ v = true) : narrow .boolean (.int v) = .int v ∧ fits .boolean (.int v) = true := by
  have h1 : v = 0 ∨ v = 1 := by simpa [okZ] using h
  rcases h1 with rfl | rfl <;> exact ⟨rfl, rfl⟩
theorem okB_nar2 {v : Int32} (h : okB v = true) : narrow .byte (.int v) = .int v ∧ fits .byte (.int v) = true := by
  have e : v.toInt8.toInt32 = v := by simpa [okB] using h
  exact ⟨by show Value.int v.toInt8.toInt32 = _; rw [e], okB_fits h⟩
theorem okC_nar {v : Int32} (h : okC v = true) : narrow .char (.int v) = .int v := by
  have e : (v.toUInt32 % 65536).toInt32 = v := by simpa [okC] using h
  rw [← e]
  exact pk_nc v
/-! ## a method's start -/
theorem lv_args_map (vs : List V3) : ∀ k, lv_args k (mS vs) = mL (largs k vs) := by
  induction vs with
  | nil => intro k; rfl
  | cons v l ih =>
    intro k
    show (k, vv v) :: lv_args (if (vv v).category = 2 then k + 2 else k + 1) (mS l) = (k, vv v) :: mL (largs (k + vc v) l)
    rw [ih, vv_cat]
    congr 3
    rcases v with x | x | r <;> rfl
def slots3 (vs : List V3) : Nat := (vs.map vc).sum
theorem lg_sl_len (vs : List V3) : (lg_sl (mS vs)).length = slots3 vs := by
  induction vs with
  | nil => rfl
  | cons v l ih =>
    rcases v with x | x | r
    · show (lg_sl (.int x :: mS l)).length = 1 + slots3 l
      rw [← ih]; simp [lg_sl, Value.category]; omega
    · show (lg_sl (.long x :: mS l)).length = 2 + slots3 l
      rw [← ih]; simp [lg_sl, Value.category]; omega
    · show (lg_sl (va_rf r :: mS l)).length = 1 + slots3 l
      rw [← ih]
      cases r <;> (simp [lg_sl, va_rf, Value.category]; omega)
theorem go_start {y : MethodName} {vs : List V3} {ls0 : List (Nat × V3)} (hy : plainName y.cls = true) (hY : Y.1 = y.cls) (hi : Y.2.2.2.2.2.2 = true → y.name = "<init>") (hn : slots3 vs ≤ Y.2.2.1) (hls : largs 0 vs = ls0) (hg : Go G Y σ σE rE 0 ls0 [] σ) : Mt G Y y vs σ rE σE := by
  intro l
  refine Met.ofW (cc := Y.2.1) (maxL := Y.2.2.1) (ret := Y.2.2.2.1) hy rfl ?_
  intro p e s m args below meth c s₁ B hml hv
  obtain ⟨rfl, hT, hZ, hR⟩ := hv
  have hts := atoms_spec (ws := ws_ y Y.2.1 Y.2.2.1 Y.2.2.2.1) B.pre
  have hts : ∀ w ∈ lw_all, w.before _ s = true := fun w h => hts w (List.mem_cons_of_mem _ h)
  have C : Cx G Y σ p s m (mS vs).toArray meth c := ⟨B.exec, B.bytes, B.returns, B.notSynchronized, hml, by rw [hY]; exact findClass_of_methodNamed B.named, hts, hT, hZ, ⟨hR.1, hR.2.1⟩, fun h => (name_of_methodNamed B.named B.method).1.trans (hi h)⟩
  have hl := lv_entry (mS vs) (n := Y.2.2.1) (by rw [lg_sl_len]; exact hn)
  rw [lv_args_map, hls] at hl
  rw [lg_entry_eq]
  have hW := hg p l e s m (mS vs).toArray below meth c C s.heap [] _ hR (Ex.rf σ) va_S.rf hl
  rw [Nat.sub_self, Nat.sub_self] at hW
  exact hW
end RW
