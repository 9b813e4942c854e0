/-! ROWS of the judgement Go: arrays, new cells, constants, casts, returns, a method's start -/
set_option maxRecDepth 100000
theorem HR.fit {G : gG} {σ : St} {H : Heap} {a : Nat} (h : HR G σ H) (ho : σ.ob a = 2) {j : Nat} (hj : j < σ.ln a) : okB (σ.ai a j) = true := by
  obtain ⟨cell, -, -, -, -, -, h6⟩ := (h.2.2 a).1 1 .byte rfl ho
  exact h6 rfl j hj
/-- the heap behind a store in an array -/
theorem HR.arr {G : gG} {σ τ : St} {H H1 : Heap} {a k i : Nat} {ty : FieldType} {v : Value} {cell : Cell} (h : HR G σ H) (hk : arrT[k]? = some ty) (ho : σ.ob a = k + 1) (hc : H[a]? = some cell) (hc2 : cell.cls = G.2.2 k) (hc3 : vmok σ.lo a cell) (hc4 : cell.slots.size = σ.ln a) (hc5 : ∀ j : Nat, j < σ.ln a → cell.slots[j]? = some (elV σ (k + 1) a j))
    (hn : τ.nn = σ.nn) (hob : τ.ob = σ.ob) (hln : τ.ln = σ.ln) (hs : ∀ b, b ≠ a → (∀ F, τ.fi F b = σ.fi F b) ∧ (∀ F, τ.fr F b = σ.fr F b) ∧ τ.ai b = σ.ai b ∧ τ.al b = σ.al b ∧ τ.ar b = σ.ar b)
    (hv : elV τ (k + 1) a i = v) (hw : ∀ j, j ≠ i → elV τ (k + 1) a j = elV σ (k + 1) a j) (hfit : k = 1 → ∀ j, j < σ.ln a → okB (τ.ai a j) = true) (e1 : H1[a]? = some (cell.setSlot i v)) (hsz : H1.size = H.size) (ho1 : ∀ q : Nat, q ≠ a → H1[q]? = H[q]?) : HR G τ H1 := by
  have e2 : τ.lo = σ.lo := by simp only [St.lo, hn]
  have hk4 : k < 4 := (List.getElem?_eq_some_iff.mp hk).1
  refine h.put hn hob hln hs hsz ho1 ⟨fun k2 ty2 hk2 ho2 => ?_, fun c2 q2 hq2 ho2 => ?_, fun _ => ?_⟩
  · rw [hob, ho] at ho2
    obtain rfl : k2 = k := by omega
    refine ⟨_, e1, hc2, by rw [e2]; exact hc3, ?_, fun j hj => ?_, fun e j hj => hfit e j (by rw [← hln]; exact hj)⟩
    · rw [hln, ← hc4]
      simp [Cell.setSlot]
    · rw [hln] at hj
      by_cases hji : j = i
      · subst hji
        rw [Cell.slots_setSlot_self _ (by rw [hc4]; exact hj), hv]
      · rw [slot_ne _ _ (fun q => hji q.symm), hc5 j hj, hw j hji]
  · rw [hob, ho] at ho2
    omega
  · rw [hsz]
    exact (Array.getElem?_eq_some_iff.mp hc).1
section RW
variable {G : gG} {Y : mY} {σ0 σE σ : St} {rE : Option V3} {pc : Nat} {ls : List (Nat × V3)} {st : List V3} {ζ : Type} {z : ζ}
theorem go_aN {r : Option Nat} {K : Int32 → Option ζ} (hd : decode Y.2.1 pc = .ok (.arraylength, 1)) (h : aN σ r K = some z)
    (k : ∀ v, K v = some z → Go G Y σ0 σE rE (pc + 1) ls (iV v :: st) σ) : Go G Y σ0 σE rE pc ls (rV r :: st) σ := by
  obtain ⟨a, rfl, h⟩ := xN_el h
  obtain ⟨hb, h⟩ := if_el h
  simp only [Bool.and_eq_true, decide_eq_true_eq] at hb
  obtain ⟨k0, ty, hk, ho⟩ : ∃ k0 ty, arrT[k0]? = some ty ∧ σ.ob a = k0 + 1 := by
    obtain ⟨k0, hk0⟩ : ∃ k0, σ.ob a = k0 + 1 := ⟨σ.ob a - 1, by omega⟩
    have : k0 < arrT.length := by show k0 < 4; omega
    exact ⟨k0, arrT[k0], List.getElem?_eq_getElem this, hk0⟩
  intro p l e s m args below meth c C H locs lsA hR hX hS hl0
  obtain ⟨cell, g1, g2, g3, g4, g5, g6⟩ := (hR.2.2 a).1 k0 ty hk ho
  exact W.alen (n := nI (σ.ln a)) C.1 C.2.1 g1 (C.kt.arr hk g2 g3) (by rw [g4]; rfl) rfl rfl hd (k _ h p l e s m args below meth c C H locs lsA hR hX hS hl0)
theorem inB_el {i : Int32} {n : Nat} (h : inB i n = true) : ¬ (i < 0 ∨ n ≤ i.toNatClampNeg) ∧ i.toNatClampNeg < n := by
  have h1 := inB_in h
  exact ⟨h1, Nat.not_le.mp fun q => h1 (Or.inr q)⟩
theorem go_lI1 {r : Option Nat} {i : Int32} {K : Int32 → Option ζ} (hd : decode Y.2.1 pc = .ok (.iaload, 1)) (h : lI σ 1 r i K = some z)
    (k : ∀ v, K v = some z → Go G Y σ0 σE rE (pc + 1) ls (iV v :: st) σ) : Go G Y σ0 σE rE pc ls (iV i :: rV r :: st) σ := by
  obtain ⟨a, rfl, h⟩ := xN_el h
  obtain ⟨hb, h⟩ := if_el h
  simp only [Bool.and_eq_true, decide_eq_true_eq] at hb
  obtain ⟨hi, hlt⟩ := inB_el hb.2
  intro p l e s m args below meth c C H locs lsA hR hX hS hl0
  obtain ⟨cell, g1, g2, g3, g4, g5, g6⟩ := (hR.2.2 a).1 0 .int rfl hb.1
  exact W.iald (v := .int (σ.ai a i.toNatClampNeg)) C.1 C.2.1 g1 (C.kt.arr (k := 0) rfl g2 g3) g3.known (by rw [g4]; exact hi) (g5 _ hlt) rfl rfl hd (k _ h p l e s m args below meth c C H locs lsA hR hX hS hl0)
theorem go_lI2 {r : Option Nat} {i : Int32} {K : Int32 → Option ζ} (hd : decode Y.2.1 pc = .ok (.baload, 1)) (h : lI σ 2 r i K = some z)
    (k : ∀ v, K v = some z → Go G Y σ0 σE rE (pc + 1) ls (iV v :: st) σ) : Go G Y σ0 σE rE pc ls (iV i :: rV r :: st) σ := by
  obtain ⟨a, rfl, h⟩ := xN_el h
  obtain ⟨hb, h⟩ := if_el h
  simp only [Bool.and_eq_true, decide_eq_true_eq] at hb
  obtain ⟨hi, hlt⟩ := inB_el hb.2
  intro p l e s m args below meth c C H locs lsA hR hX hS hl0
  obtain ⟨cell, g1, g2, g3, g4, g5, g6⟩ := (hR.2.2 a).1 1 .byte rfl hb.1
  exact W.bald (v := .int (σ.ai a i.toNatClampNeg)) C.1 C.2.1 g1 (C.kt.arr (k := 1) rfl g2 g3) g3.known (by rw [g4]; exact hi) (g5 _ hlt) rfl rfl hd (k _ h p l e s m args below meth c C H locs lsA hR hX hS hl0)
theorem go_lL {r : Option Nat} {i : Int32} {K : Int64 → Option ζ} (hd : decode Y.2.1 pc = .ok (.laload, 1)) (h : lL σ r i K = some z)
    (k : ∀ v, K v = some z → Go G Y σ0 σE rE (pc + 1) ls (lV v :: st) σ) : Go G Y σ0 σE rE pc ls (iV i :: rV r :: st) σ := by
  obtain ⟨a, rfl, h⟩ := xN_el h
  obtain ⟨hb, h⟩ := if_el h
  simp only [Bool.and_eq_true, decide_eq_true_eq] at hb
  obtain ⟨hi, hlt⟩ := inB_el hb.2
  intro p l e s m args below meth c C H locs lsA hR hX hS hl0
  obtain ⟨cell, g1, g2, g3, g4, g5, g6⟩ := (hR.2.2 a).1 2 .long rfl hb.1
  exact W.lald (v := .long (σ.al a i.toNatClampNeg)) C.1 C.2.1 g1 (C.kt.arr (k := 2) rfl g2 g3) g3.known (by rw [g4]; exact hi) (g5 _ hlt) rfl rfl hd (k _ h p l e s m args below meth c C H locs lsA hR hX hS hl0)
theorem go_lR {r : Option Nat} {i : Int32} {K : Option Nat → Option ζ} (hd : decode Y.2.1 pc = .ok (.aaload, 1)) (h : lR σ r i K = some z)
    (k : ∀ v, K v = some z → Go G Y σ0 σE rE (pc + 1) ls (rV v :: st) σ) : Go G Y σ0 σE rE pc ls (iV i :: rV r :: st) σ := by
  obtain ⟨a, rfl, h⟩ := xN_el h
  obtain ⟨hb, h⟩ := if_el h
  simp only [Bool.and_eq_true, decide_eq_true_eq] at hb
  obtain ⟨hi, hlt⟩ := inB_el hb.2
  intro p l e s m args below meth c C H locs lsA hR hX hS hl0
  obtain ⟨cell, g1, g2, g3, g4, g5, g6⟩ := (hR.2.2 a).1 3 (.object "java/lang/Object") rfl hb.1
  exact W.aald (v := va_rf (σ.ar a i.toNatClampNeg)) (ty := .object "java/lang/Object") C.1 C.2.1 g1 (C.kt.arr (k := 3) rfl g2 g3) rfl g3.known (by rw [g4]; exact hi) (g5 _ hlt) rfl rfl hd (k _ h p l e s m args below meth c C H locs lsA hR hX hS hl0)
theorem up1_ne {α : Type} {h : Nat → α} {a b : Nat} {v : α} (hb : b ≠ a) : up1 h a v b = h b := if_neg hb
theorem up1_eq {α : Type} {h : Nat → α} {a : Nat} {v : α} : up1 h a v a = v := if_pos rfl
theorem go_tI {r : Option Nat} {i x : Int32} {K : St → Option ζ} (hd : decode Y.2.1 pc = .ok (.iastore, 1)) (h : tI σ r i x K = some z)
    (k : ∀ τ, K τ = some z → Go G Y σ0 σE rE (pc + 1) ls st τ) : Go G Y σ0 σE rE pc ls (iV x :: iV i :: rV r :: st) σ := by
  obtain ⟨a, rfl, h⟩ := xN_el h
  obtain ⟨hb, h⟩ := if_el h
  simp only [Bool.and_eq_true, decide_eq_true_eq] at hb
  obtain ⟨hi, hlt⟩ := inB_el hb.1.2
  intro p l e s m args below meth c C H locs lsA hR hX hS hl0
  obtain ⟨cell, g1, g2, g3, g4, g5, g6⟩ := (hR.2.2 a).1 0 .int rfl hb.1.1
  refine W.iast C.1 C.2.1 g1 (C.kt.arr (k := 0) rfl g2 g3) g3.known (by rw [g4]; exact hi) rfl rfl hd fun H' f1 f2 f3 => ?_
  refine k _ h p l e s m args below meth c C H' _ lsA ?_ (hX.put rfl rfl) (hS.put f2 f3 (hX.fre (Or.inl ⟨hb.2, by rw [hb.1.1]; decide⟩))) hl0
  refine hR.arr (τ := σ.aI a _) (k := 0) rfl hb.1.1 g1 g2 g3 g4 g5 rfl rfl rfl (fun b hb2 => ⟨fun _ => rfl, fun _ => rfl, up1_ne hb2, rfl, rfl⟩) (i := i.toNatClampNeg) ?_ (fun j hj => ?_) (fun q => by cases q) f1 f2 f3
  · show Value.int (up1 σ.ai a (upA (σ.ai a) i.toNatClampNeg x) a i.toNatClampNeg) = _
    rw [up1_eq]
    unfold upA
    rw [if_pos rfl]
  · show Value.int (up1 σ.ai a (upA (σ.ai a) i.toNatClampNeg x) a j) = Value.int (σ.ai a j)
    rw [up1_eq]
    unfold upA
    rw [if_neg hj]
theorem okB_nar (x : Int32) : okB x.toInt8.toInt32 = true := by simp [okB]
theorem go_tB {r : Option Nat} {i x : Int32} {K : St → Option ζ} (hd : decode Y.2.1 pc = .ok (.bastore, 1)) (h : tB σ r i x K = some z)
    (k : ∀ τ, K τ = some z → Go G Y σ0 σE rE (pc + 1) ls st τ) : Go G Y σ0 σE rE pc ls (iV x :: iV i :: rV r :: st) σ := by
  obtain ⟨a, rfl, h⟩ := xN_el h
  obtain ⟨hb, h⟩ := if_el h
  simp only [Bool.and_eq_true, decide_eq_true_eq] at hb
  obtain ⟨hi, hlt⟩ := inB_el hb.1.2
  intro p l e s m args below meth c C H locs lsA hR hX hS hl0
  obtain ⟨cell, g1, g2, g3, g4, g5, g6⟩ := (hR.2.2 a).1 1 .byte rfl hb.1.1
  refine W.bast C.1 C.2.1 g1 (C.kt.arr (k := 1) rfl g2 g3) g3.known (by rw [g4]; exact hi) rfl rfl hd fun H' f1 f2 f3 => ?_
  refine k _ h p l e s m args below meth c C H' _ lsA ?_ (hX.put rfl rfl) (hS.put f2 f3 (hX.fre (Or.inl ⟨hb.2, by rw [hb.1.1]; decide⟩))) hl0
  refine hR.arr (τ := σ.aI a _) (k := 1) rfl hb.1.1 g1 g2 g3 g4 g5 rfl rfl rfl (fun b hb2 => ⟨fun _ => rfl, fun _ => rfl, up1_ne hb2, rfl, rfl⟩) (i := i.toNatClampNeg) ?_ (fun j hj => ?_) (fun _ j hj => ?_) f1 f2 f3
  · show Value.int (up1 σ.ai a (upA (σ.ai a) i.toNatClampNeg x.toInt8.toInt32) a i.toNatClampNeg) = Value.int x.toInt8.toInt32
    rw [up1_eq]
    unfold upA
    rw [if_pos rfl]
  · show Value.int (up1 σ.ai a (upA (σ.ai a) i.toNatClampNeg x.toInt8.toInt32) a j) = Value.int (σ.ai a j)
    rw [up1_eq]
    unfold upA
    rw [if_neg hj]
  · show okB (up1 σ.ai a (upA (σ.ai a) i.toNatClampNeg x.toInt8.toInt32) a j) = true
    rw [up1_eq]
    unfold upA
    by_cases hji : j = i.toNatClampNeg
    · rw [if_pos hji]; exact okB_nar x
    · rw [if_neg hji]; exact g6 rfl j hj
theorem go_tL {r : Option Nat} {i : Int32} {x : Int64} {K : St → Option ζ} (hd : decode Y.2.1 pc = .ok (.lastore, 1)) (h : tL σ r i x K = some z)
    (k : ∀ τ, K τ = some z → Go G Y σ0 σE rE (pc + 1) ls st τ) : Go G Y σ0 σE rE pc ls (lV x :: iV i :: rV r :: st) σ := by
  obtain ⟨a, rfl, h⟩ := xN_el h
  obtain ⟨hb, h⟩ := if_el h
  simp only [Bool.and_eq_true, decide_eq_true_eq] at hb
  obtain ⟨hi, hlt⟩ := inB_el hb.1.2
  intro p l e s m args below meth c C H locs lsA hR hX hS hl0
  obtain ⟨cell, g1, g2, g3, g4, g5, g6⟩ := (hR.2.2 a).1 2 .long rfl hb.1.1
  refine W.last C.1 C.2.1 g1 (C.kt.arr (k := 2) rfl g2 g3) g3.known (by rw [g4]; exact hi) rfl rfl hd fun H' f1 f2 f3 => ?_
  refine k _ h p l e s m args below meth c C H' _ lsA ?_ (hX.put rfl rfl) (hS.put f2 f3 (hX.fre (Or.inl ⟨hb.2, by rw [hb.1.1]; decide⟩))) hl0
  refine hR.arr (τ := σ.aL a _) (k := 2) rfl hb.1.1 g1 g2 g3 g4 g5 rfl rfl rfl (fun b hb2 => ⟨fun _ => rfl, fun _ => rfl, rfl, up1_ne hb2, rfl⟩) (i := i.toNatClampNeg) ?_ (fun j hj => ?_) (fun q => by cases q) f1 f2 f3
  · show Value.long (up1 σ.al a (upA (σ.al a) i.toNatClampNeg x) a i.toNatClampNeg) = _
    rw [up1_eq]
    unfold upA
    rw [if_pos rfl]
  · show Value.long (up1 σ.al a (upA (σ.al a) i.toNatClampNeg x) a j) = Value.long (σ.al a j)
    rw [up1_eq]
    unfold upA
    rw [if_neg hj]
/-- the cell of an object of ours -/
theorem HR.obj {G : gG} {σ : St} {H : Heap} {s : State} {a c : Nat} {q : vw_C} (h : HR G σ H) {σ0 : St} (hT : KT G σ0 s) (hq : clG[c]? = some q) (ho : σ.ob a = c + 5) : ∃ cell : Cell, H[a]? = some cell ∧ cell.vm.isStatics = false ∧ s.vm.findClass q.1 = some cell.cls := by
  obtain ⟨cell, g1, g2, g3, -⟩ := (h.2.2 a).2.1 c q hq ho
  exact ⟨cell, g1, g3.stat, by rw [g2]; exact (hT.1 c q hq).2.1⟩
theorem castObj : ∀ (c : Nat) (q : vw_C), c < 17 → clG[c]? = some q → (q.1, "java/lang/Object") ∈ castU := by
  intro c q hc h
  match c, h with
  | 0, h => cases h; decide +kernel
  | 1, h => cases h; decide +kernel
  | 2, h => cases h; decide +kernel
  | 3, h => cases h; decide +kernel
  | 4, h => cases h; decide +kernel
  | 5, h => cases h; decide +kernel
  | 6, h => cases h; decide +kernel
  | 7, h => cases h; decide +kernel
  | 8, h => cases h; decide +kernel
  | 9, h => cases h; decide +kernel
  | 10, h => cases h; decide +kernel
  | 11, h => cases h; decide +kernel
  | 12, h => cases h; decide +kernel
  | 13, h => cases h; decide +kernel
  | 14, h => cases h; decide +kernel
  | 15, h => cases h; decide +kernel
  | 16, h => cases h; decide +kernel
  | c + 17, h => omega
theorem go_tR {r x : Option Nat} {i : Int32} {K : St → Option ζ} (hd : decode Y.2.1 pc = .ok (.aastore, 1)) (h : tR σ r i x K = some z)
    (k : ∀ τ, K τ = some z → Go G Y σ0 σE rE (pc + 1) ls st τ) : Go G Y σ0 σE rE pc ls (rV x :: iV i :: rV r :: st) σ := by
  obtain ⟨a, rfl, h⟩ := xN_el h
  obtain ⟨hb, h⟩ := if_el h
  simp only [Bool.and_eq_true, decide_eq_true_eq] at hb
  obtain ⟨⟨hb1, hb2⟩, hb3, hb4⟩ := hb
  obtain ⟨hi, hlt⟩ := inB_el hb2
  intro p l e s m args below meth c C H locs lsA hR hX hS hl0
  obtain ⟨cell, g1, g2, g3, g4, g5, g6⟩ := (hR.2.2 a).1 3 (.object "java/lang/Object") rfl hb1
  obtain ⟨kA, comp, k1, k2, k3, -⟩ := (C.kt.2.1 3 _ rfl).2
  obtain ⟨kE, hkE, -⟩ := Vm.findClass_spec k3
  have h0 : ¬ i < 0 ∧ i.toNatClampNeg < cell.slots.size := ⟨fun q => hi (Or.inl q), by rw [g4]; exact hlt⟩
  have hst : ∀ q, cell.vm ≠ .statics q := fun q hq => by have := g3.stat; rw [hq] at this; cases this
  have fin : ∀ H' : Heap, H'[a]? = some (cell.setSlot i.toNatClampNeg (va_rf x)) → H'.size = H.size → (∀ q : Nat, q ≠ a → H'[q]? = H[q]?) → W p l e { frames := Y.2.2.2.2.1, cells := σ0.rc, slots := σ0.rs, locals := Y.2.2.2.2.2.1 } s m args below meth c H' (locs ++ [⟨a, i.toNatClampNeg⟩]) (σ.sz - σ0.sz) (σ0.rs - σ.rs) (MQ below (QE G σ0 σE rE) args s (σE.sz - σ0.sz) (σ0.rs - σE.rs) (Fre σ0)) (F0 m (pc + 1) lsA (mS st)) := by
    intro H' f1 f2 f3
    refine k _ h p l e s m args below meth c C H' _ lsA ?_ (hX.put rfl rfl) (hS.put f2 f3 (hX.fre (Or.inl ⟨hb3, by rw [hb1]; decide⟩))) hl0
    refine hR.arr (τ := σ.aR a _) (k := 3) rfl hb1 g1 g2 g3 g4 g5 rfl rfl rfl (fun b hb2 => ⟨fun _ => rfl, fun _ => rfl, rfl, rfl, up1_ne hb2⟩) (i := i.toNatClampNeg) ?_ (fun j hj => ?_) (fun q => by cases q) f1 f2 f3
    · show va_rf (up1 σ.ar a (upA (σ.ar a) i.toNatClampNeg x) a i.toNatClampNeg) = _
      rw [up1_eq]
      unfold upA
      rw [if_pos rfl]
    · show va_rf (up1 σ.ar a (upA (σ.ar a) i.toNatClampNeg x) a j) = va_rf (σ.ar a j)
      rw [up1_eq]
      unfold upA
      rw [if_neg hj]
  cases x with
  | none =>
    exact va_WaastN (C := "java/lang/Object") C.1 C.2.1 g1 (C.kt.arr (k := 3) rfl g2 g3) g3.known (by rw [g4]; exact hi) rfl rfl hd fin
  | some v =>
    have hv5 : 5 ≤ σ.ob v ∧ σ.ob v < 22 := by simpa [okR] using hb4
    obtain ⟨cv, hcv⟩ : ∃ cv, σ.ob v = cv + 5 := ⟨σ.ob v - 5, by omega⟩
    obtain ⟨qv, hqv⟩ : ∃ qv, clG[cv]? = some qv := by
      have : cv < clG.length := by show cv < 18; omega
      exact ⟨_, List.getElem?_eq_getElem this⟩
    obtain ⟨cellV, v1, v2, v3⟩ := hR.obj C.kt hqv hcv
    obtain ⟨kC, hkC, -⟩ := Vm.findClass_spec v3
    obtain ⟨c0, t0, w1, w2, w3⟩ := Cond.castable_spec (va_Nw.use (A := args) rfl (C.kt.2.2.1 _ (castObj cv qv (by omega) hqv)))
    have hasg : s.vm.assignable cellV.cls comp = true := by
      cases v3.symm.trans w1
      cases k3.symm.trans w2
      exact w3
    exact W.aast C.1 C.2.1 g1 hst g3.known (by rw [g2]; exact k1) k2 rfl hkE h0 v1 (fun q hq => by rw [hq] at v2; cases v2) hkC hasg rfl rfl hd fin
end RW
