/-! ROWS of the judgement Go: new cells, arraycopy, constants, casts, returns, a method's start, calls -/
set_option maxRecDepth 100000
theorem Ex.new {σ0 σ τ : St} {n : Nat} (h : Ex σ0 σ) (h1 : τ.lo = σ.lo) (h2 : τ.ks = σ.ks) (h3 : τ.sz = σ.sz + 1) (h4 : τ.rc = σ.rc - 1) (h5 : τ.rs = σ.rs - n) (hc : 1 ≤ σ.rc) (h6 : ∀ a, a ≠ σ.sz → τ.ob a = σ.ob a) : Ex σ0 τ := by
  obtain ⟨k1, k2, k3, k4, k5, k6⟩ := h
  refine ⟨h1.trans k1, h2.trans k2, by omega, by omega, by omega, fun a ha => ?_⟩
  by_cases hq : a = σ.sz
  · exact Or.inr (by omega)
  · rw [h6 a hq] at ha
    exact k6 a ha
theorem HR.new {G : gG} {σ τ : St} {H H1 : Heap} (h : HR G σ H) (h1 : τ.lo = σ.lo) (h3 : τ.sz = σ.sz + 1) (hs : ∀ b, b ≠ σ.sz → τ.ob b = σ.ob b ∧ τ.ln b = σ.ln b ∧ (∀ F, τ.fi F b = σ.fi F b) ∧ (∀ F, τ.fr F b = σ.fr F b) ∧ τ.ai b = σ.ai b ∧ τ.al b = σ.al b ∧ τ.ar b = σ.ar b) (hsz : H1.size = H.size + 1) (ho : ∀ q : Nat, q < H.size → H1[q]? = H[q]?) (ha : cellAt G τ σ.sz H1) : HR G τ H1 := by
  obtain ⟨q1, q2, q3⟩ := h
  refine ⟨by rw [hsz, h3, q1], by omega, fun b => ?_⟩
  by_cases hb : b = σ.sz
  · rw [hb]; exact ha
  · obtain ⟨s0, s1, s2, s3, s4, s5, s6⟩ := hs b hb
    have hk := q3 b
    by_cases hz : σ.ob b = 0
    · refine ⟨fun k ty hk2 ho2 => ?_, fun c q hq ho2 => ?_, fun ho2 => ?_⟩
      · rw [s0, hz] at ho2; omega
      · rw [s0, hz] at ho2; omega
      · rw [s0] at ho2; exact absurd hz ho2
    · exact hk.kept h1 s0 s1 s2 s3 s4 s5 s6 (ho b (hk.2.2 hz)) (by omega)
section RW
variable {G : gG} {Y : mY} {σ0 σE σ : St} {rE : Option V3} {pc : Nat} {ls : List (Nat × V3)} {st : List V3} {ζ : Type} {z : ζ}
theorem go_nwO {idx c0 n : Nat} {q : vw_C} {K : St → Nat → Option ζ} (hq : clG[c0]? = some q) (hn : q.2.2 = n) (hl : Cond.classLink Y.1 idx q.1 ∈ lw_all) (hi : Cond.instantiable q.1 n ∈ lw_all) (hini : Cond.initialized q.1 ∈ lw_all) (hd : decode Y.2.1 pc = .ok (.new idx, 3)) (h : nwO σ (c0 + 5) n K = some z)
    (k : ∀ τ a, K τ a = some z → Go G Y σ0 σE rE (pc + 3) ls (rV (some a) :: st) τ) : Go G Y σ0 σE rE pc ls st σ := by
  obtain ⟨hb, h⟩ := if_el h
  simp only [Bool.and_eq_true, decide_eq_true_eq] at hb
  subst hn
  intro p l e s m args below meth c C H locs lsA hR hX hS hl0
  obtain ⟨x1, x2, x3, x4, x5, x6⟩ := id hX
  have hKn := C.kt.1 c0 q hq
  refine W.newcK C.1 C.2.1 C.own (C.hts _ hl) (C.hts _ hi) (C.hts _ hini) rfl hd (by show _ ≤ σ0.rc; omega) (by show _ ≤ σ0.rs; omega) hKn.2.1 hR.1 fun H1 kC hkC e1 z1 o1 => ?_
  obtain ⟨cell, t1, t2, t3, t4⟩ := u_born (tyG c0) C.hts (clG_in c0 q hq) hKn hkC e1 (clG_ty c0 q hq)
  have hE : Ex σ0 (σ.nO (c0 + 5) q.2.2) := hX.new rfl rfl rfl rfl rfl hb.1 (fun a ha => up1_ne ha)
  have hW := k (σ.nO (c0 + 5) q.2.2) σ.sz h p l e s m args below meth c C H1 locs lsA ?_ hE ⟨Nat.le_trans hS.1 (by rw [z1, hR.1]; omega), fun y g1 g2 => (o1 y (by rw [← hR.1]; exact Nat.lt_of_lt_of_le g1 hS.1)).trans (hS.2.1 y g1 g2), hS.2.2⟩ hl0
  · have w1 : (σ.nO (c0 + 5) q.2.2).sz - σ0.sz = σ.sz - σ0.sz + 1 := by show σ.sz + 1 - σ0.sz = _; omega
    have w2 : σ0.rs - (σ.nO (c0 + 5) q.2.2).rs = σ0.rs - σ.rs + q.2.2 := by show σ0.rs - (σ.rs - q.2.2) = _; omega
    rw [w1, w2] at hW
    exact hW
  · refine hR.new rfl rfl (fun b hb2 => ⟨up1_ne hb2, rfl, fun F => if_neg hb2, fun F => if_neg hb2, rfl, rfl, rfl⟩) (by rw [z1, hR.1]) (fun y hy => o1 y (by rw [← hR.1]; exact hy)) ⟨fun k2 ty hk2 ho2 => ?_, fun c2 q2 hq2 ho2 => ?_, fun _ => by rw [z1]; omega⟩
    · rw [show (σ.nO (c0 + 5) q.2.2).ob σ.sz = c0 + 5 from up1_eq] at ho2
      have hk4 : k2 < 4 := (List.getElem?_eq_some_iff.mp hk2).1
      omega
    · rw [show (σ.nO (c0 + 5) q.2.2).ob σ.sz = c0 + 5 from up1_eq] at ho2
      obtain rfl : c2 = c0 := by omega
      obtain rfl : q2 = q := Option.some.inj (hq2.symm.trans hq)
      refine ⟨cell, t1, t2, Or.inl t3, fun j hj => ?_⟩
      rw [t4 j hj]
      show some (defaultValue (tyG c2 j)) = _
      rw [clG_df c2 q2 hq j hj]
      congr 1
      show _ = (if 1000 ≤ (fidT (c2 + 5)).getD j 0 then va_rf (if σ.sz = σ.sz then none else _) else Value.int (if σ.sz = σ.sz then 0 else _))
      rw [if_pos rfl, if_pos rfl]
      rfl
theorem int_toNat_le {n : Int32} (h : inB n 60000000 = true) : ¬ n < 0 ∧ n.toNatClampNeg < 60000000 := ⟨fun q => (inB_el h).1 (Or.inl q), (inB_el h).2⟩
/-- a new array's cell -/
theorem HR.newA {G : gG} {σ : St} {H H1 : Heap} {k n : Nat} {ty : FieldType} {cA : ClassId} {d : Value} (h : HR G σ H) (hk : arrT[k]? = some ty) (hcA : cA = G.2.2 k) (e1 : H1[σ.sz]? = some (arrV cA n (fun _ => d))) (hd : elV (σ.nA (k + 1) n) (k + 1) σ.sz 0 = d) (hsz : H1.size = H.size + 1) (ho : ∀ q : Nat, q < H.size → H1[q]? = H[q]?) : HR G (σ.nA (k + 1) n) H1 := by
  have hk4 : k < 4 := (List.getElem?_eq_some_iff.mp hk).1
  refine h.new rfl rfl (fun b hb2 => ⟨up1_ne hb2, up1_ne hb2, fun F => rfl, fun F => rfl, up1_ne hb2, up1_ne hb2, up1_ne hb2⟩) hsz ho ⟨fun k2 ty2 hk2 ho2 => ?_, fun c2 q2 hq2 ho2 => ?_, fun _ => by rw [hsz, h.1]; omega⟩
  · rw [show (σ.nA (k + 1) n).ob σ.sz = k + 1 from up1_eq] at ho2
    obtain rfl : k2 = k := by omega
    have hln : (σ.nA (k2 + 1) n).ln σ.sz = n := up1_eq
    refine ⟨_, e1, hcA, Or.inl rfl, by rw [arrV_size, hln], fun j hj => ?_, fun _ j hj => ?_⟩
    · rw [hln] at hj
      rw [arrV_read _ _ hj, ← hd]
      congr 1
      show elV _ _ _ _ = elV _ _ _ _
      unfold elV
      rw [show (σ.nA (k2 + 1) n).ai σ.sz = fun _ => 0 from up1_eq, show (σ.nA (k2 + 1) n).al σ.sz = fun _ => 0 from up1_eq, show (σ.nA (k2 + 1) n).ar σ.sz = fun _ => none from up1_eq]
    · rw [show (σ.nA (k2 + 1) n).ai σ.sz = fun _ => 0 from up1_eq]
      show okB 0 = true
      decide
  · rw [show (σ.nA (k + 1) n).ob σ.sz = k + 1 from up1_eq] at ho2
    omega
theorem go_nwA {at0 : ArrayType} {k0 : Nat} {ty : FieldType} {n : Int32} {K : St → Nat → Option ζ} (hk0 : arrT[k0]? = some ty) (hat : newarray.typeOf at0 = ty) (hno : ∀ C, ty ≠ .object C) (hc8 : componentBytes ty ≤ 8) (hdf : ∀ (σ : St) n, elV (σ.nA (k0 + 1) n) (k0 + 1) σ.sz 0 = defaultValue ty) (hw : Cond.arrayClass ty ∈ lw_all) (hd : decode Y.2.1 pc = .ok (.newarray at0, 2)) (h : nwA σ (k0 + 1) n K = some z)
    (k : ∀ τ a, K τ a = some z → Go G Y σ0 σE rE (pc + 2) ls (rV (some a) :: st) τ) : Go G Y σ0 σE rE pc ls (iV n :: st) σ := by
  obtain ⟨hb, h⟩ := if_el h
  simp only [Bool.and_eq_true, decide_eq_true_eq] at hb
  obtain ⟨hb0, hb1, hb2⟩ := hb
  obtain ⟨n0, n1⟩ := int_toNat_le hb0
  subst hat
  intro p l e s m args below meth c C H locs lsA hR hX hS hl0
  obtain ⟨x1, x2, x3, x4, x5, x6⟩ := id hX
  refine va_newaK C.1 C.2.1 (C.hts _ hw) rfl hd rfl n0 rfl (by refine Nat.le_trans (Nat.mul_le_mul_left _ hc8) ?_; omega) (by show _ ≤ σ0.rc; omega) (by show _ ≤ σ0.rs; omega) hR.1 fun H1 cA e1 z1 o1 hAr hNm => ?_
  have hcA : cA = G.2.2 k0 := by
    have h2 := (C.kt.2.1 k0 _ hk0).2
    unfold va_RA at h2
    split at h2
    · next C0 e0 => exact absurd e0 (hno C0)
    · exact Option.some.inj (hNm.symm.trans h2)
  have hE : Ex σ0 (σ.nA (k0 + 1) n.toNatClampNeg) := hX.new rfl rfl rfl rfl rfl hb1 (fun a ha => up1_ne ha)
  have hW := k (σ.nA (k0 + 1) n.toNatClampNeg) σ.sz h p l e s m args below meth c C H1 locs lsA (hR.newA hk0 hcA e1 (hdf σ _) (by rw [z1, hR.1]) (fun y hy => o1 y (by rw [← hR.1]; exact hy))) hE ⟨Nat.le_trans hS.1 (by rw [z1, hR.1]; omega), fun y g1 g2 => (o1 y (by rw [← hR.1]; exact Nat.lt_of_lt_of_le g1 hS.1)).trans (hS.2.1 y g1 g2), hS.2.2⟩ hl0
  have w1 : (σ.nA (k0 + 1) n.toNatClampNeg).sz - σ0.sz = σ.sz - σ0.sz + 1 := by show σ.sz + 1 - σ0.sz = _; omega
  have w2 : σ0.rs - (σ.nA (k0 + 1) n.toNatClampNeg).rs = σ0.rs - σ.rs + n.toNatClampNeg := by show σ0.rs - (σ.rs - n.toNatClampNeg) = _; omega
  rw [w1, w2] at hW
  exact hW
/-- a new Object[] -/
theorem go_nwR {idx : Nat} {n : Int32} {K : St → Nat → Option ζ} (hl : Cond.classLink Y.1 idx "java/lang/Object" ∈ lw_all) (hd : decode Y.2.1 pc = .ok (.anewarray idx, 3)) (h : nwA σ 4 n K = some z)
    (k : ∀ τ a, K τ a = some z → Go G Y σ0 σE rE (pc + 3) ls (rV (some a) :: st) τ) : Go G Y σ0 σE rE pc ls (iV n :: st) σ := by
  obtain ⟨hb, h⟩ := if_el h
  simp only [Bool.and_eq_true, decide_eq_true_eq] at hb
  obtain ⟨hb0, hb1, hb2⟩ := hb
  obtain ⟨n0, n1⟩ := int_toNat_le hb0
  intro p l e s m args below meth c C H locs lsA hR hX hS hl0
  obtain ⟨x1, x2, x3, x4, x5, x6⟩ := id hX
  refine W.anew C.1 C.2.1 C.own (C.hts _ hl) (va_AO.use C.kt.2.2.2.2.1) rfl hd rfl n0 (by omega) (by show _ ≤ σ0.rc; omega) (by show _ ≤ σ0.rs; omega) fun cA kA comp f1 f2 f3 f4 => ?_
  generalize hH1 : H.push ({ cls := cA, slots := Array.replicate n.toNatClampNeg .null, vm := .none } : Cell) = H1
  have z1 : H1.size = H.size + 1 := by rw [← hH1, Array.size_push]
  have e1 : H1[H.size]? = some (arrV cA n.toNatClampNeg (fun _ => .null)) := by rw [← hH1, Array.getElem?_push_size, ← arrV_new]
  have o1 : ∀ q : Nat, q < H.size → H1[q]? = H[q]? := fun q hq => by rw [← hH1, Array.getElem?_push, if_neg (Nat.ne_of_lt hq)]
  have hcA : cA = G.2.2 3 := by
    obtain ⟨_, _, -, -, -, h4⟩ := (C.kt.2.1 3 _ rfl).2
    exact Option.some.inj (f1.symm.trans h4)
  have hE : Ex σ0 (σ.nA 4 n.toNatClampNeg) := hX.new rfl rfl rfl rfl rfl hb1 (fun a ha => up1_ne ha)
  have hW := k (σ.nA 4 n.toNatClampNeg) σ.sz h p l e s m args below meth c C H1 locs lsA (hR.newA (k := 3) rfl hcA (by rw [← hR.1]; exact e1) (by show va_rf (up1 σ.ar σ.sz (fun _ => none) σ.sz 0) = _; rw [up1_eq]; rfl) z1 o1) hE ⟨Nat.le_trans hS.1 (by rw [z1]; omega), fun y g1 g2 => (o1 y (Nat.lt_of_lt_of_le g1 hS.1)).trans (hS.2.1 y g1 g2), hS.2.2⟩ hl0
  have w1 : (σ.nA 4 n.toNatClampNeg).sz - σ0.sz = σ.sz - σ0.sz + 1 := by show σ.sz + 1 - σ0.sz = _; omega
  have w2 : σ0.rs - (σ.nA 4 n.toNatClampNeg).rs = σ0.rs - σ.rs + n.toNatClampNeg := by show σ0.rs - (σ.rs - n.toNatClampNeg) = _; omega
  rw [w1, w2] at hW
  rw [hR.1]
  exact hW
end RW
