/-! ROWS of the judgement Go: arraycopy, constants, casts, returns, a method's start, calls -/
set_option maxRecDepth 100000
theorem nat_of_nn {x : Int32} (h : ¬ x < 0) : x.toInt = (x.toNatClampNeg : Int) := by
  have hz0 : (0 : Int) ≤ x.toInt := by
    have := Int32.not_lt.mp h
    simpa using Int32.le_iff_toInt_le.mp this
  show x.toInt = ((x.toInt.toNat : Nat) : Int)
  omega
theorem cpOK_el {σ : St} {c a b : Nat} {sp dp n : Int32} (h : cpOK σ c a b sp dp n = true) : σ.ob a = c ∧ σ.ob b = c ∧ ¬ sp < 0 ∧ ¬ dp < 0 ∧ ¬ n < 0 ∧ sp.toNatClampNeg + n.toNatClampNeg ≤ σ.ln a ∧ dp.toNatClampNeg + n.toNatClampNeg ≤ σ.ln b ∧ σ.lo ≤ b := by
  simp only [cpOK, Bool.and_eq_true, Bool.not_eq_true', decide_eq_true_eq, decide_eq_false_iff_not] at h
  obtain ⟨⟨⟨h1, h2⟩, ⟨h3, h4⟩, h5⟩, ⟨h6, h7⟩, h8⟩ := h
  exact ⟨h1, h2, h3, h4, h5, h6, h7, h8⟩
theorem okB_fits {x : Int32} (h : okB x = true) : fits .byte (.int x) = true := by
  have e : x.toInt8.toInt32 = x := by simpa [okB] using h
  rw [← e]
  exact pk_fb x
theorem stretch_get (cs : Cell) (sp n i : Nat) (hi : i < n) : (cs.stretch sp n)[i]? = some (cs.slots.getD (sp + i) .null) := by
  simp [Cell.stretch, hi]
theorem stretch_len (cs : Cell) (sp n : Nat) : (cs.stretch sp n).length = n := by simp [Cell.stretch]
section RW
variable {G : gG} {Y : mY} {σ0 σE σ : St} {rE : Option V3} {pc : Nat} {ls : List (Nat × V3)} {st : List V3} {ζ : Type} {z : ζ}
theorem mS_cat (st : List V3) : ((mS st).map fun v => v.category).sum = (st.map vc).sum := by
  induction st with
  | nil => rfl
  | cons v l ih =>
    show (vv v).category + ((mS l).map fun v => v.category).sum = vc v + (l.map vc).sum
    rw [ih, vv_cat]
/-- arraycopy, whatever the kind: τ is the heap behind it -/
theorem go_cp {k0 idx a b : Nat} {ty : FieldType} {sp dp n : Int32} {τ : St} (hk0 : arrT[k0]? = some ty) (hO : cpOK σ (k0 + 1) a b sp dp n = true) (hl : Cond.methodLink Y.1 idx arraycopyName ∈ lw_all) (hnat : Cond.native arraycopyName ∈ lw_all) (hst : Cond.static arraycopyName ∈ lw_all) (hini : Cond.initialized "java/lang/System" ∈ lw_all) (hfr : 1 ≤ Y.2.2.2.2.1) (hlo : (st.map vc).sum + (nativeFrameWords "java/lang/System" "arraycopy" 5 + 11) ≤ Y.2.2.2.2.2.1) (hd : decode Y.2.1 pc = .ok (.invokestatic idx, 3))
    (hn : τ.nn = σ.nn) (hob : τ.ob = σ.ob) (hln : τ.ln = σ.ln) (hso : ∀ b2, b2 ≠ b → (∀ F, τ.fi F b2 = σ.fi F b2) ∧ (∀ F, τ.fr F b2 = σ.fr F b2) ∧ τ.ai b2 = σ.ai b2 ∧ τ.al b2 = σ.al b2 ∧ τ.ar b2 = σ.ar b2)
    (hv : ∀ j, elV τ (k0 + 1) b j = if dp.toNatClampNeg ≤ j ∧ j < dp.toNatClampNeg + n.toNatClampNeg then elV σ (k0 + 1) a (sp.toNatClampNeg + (j - dp.toNatClampNeg)) else elV σ (k0 + 1) b j) (hfit : k0 = 1 → (∀ j, j < σ.ln a → okB (σ.ai a j) = true) → (∀ j, j < σ.ln b → okB (σ.ai b j) = true) → ∀ j, j < σ.ln b → okB (τ.ai b j) = true)
    (hvals : ∀ i, i < n.toNatClampNeg → (k0 = 3 ∧ ∃ x, elV σ (k0 + 1) a (sp.toNatClampNeg + i) = va_rf x ∧ okR σ x = true) ∨ (k0 = 1 ∧ elV σ (k0 + 1) a (sp.toNatClampNeg + i) = .int (σ.ai a (sp.toNatClampNeg + i))) ∨ (k0 = 0 ∧ ∃ x, elV σ (k0 + 1) a (sp.toNatClampNeg + i) = .int x))
    (k : Go G Y σ0 σE rE (pc + 3) ls st τ) : Go G Y σ0 σE rE pc ls (iV n :: iV dp :: rV (some b) :: iV sp :: rV (some a) :: st) σ := by
  obtain ⟨o1, o2, o3, o4, o5, o6, o7, o8⟩ := cpOK_el hO
  have hk4 : k0 < 4 := (List.getElem?_eq_some_iff.mp hk0).1
  intro p l e s m args below meth c C H locs lsA hR hX hS hl0
  obtain ⟨cs, g1, g2, g3, g4, g5, g6⟩ := (hR.2.2 a).1 k0 ty hk0 o1
  obtain ⟨cd, f1, f2, f3, f4, f5, f6⟩ := (hR.2.2 b).1 k0 ty hk0 o2
  obtain ⟨-, ks, hks, scm, hsk⟩ := C.kt.arr hk0 g2 g3
  obtain ⟨-, kd, hkd, dcm, hdk⟩ := C.kt.arr hk0 f2 f3
  intro T hT X
  have hgetD : ∀ i, i < n.toNatClampNeg → cs.slots.getD (sp.toNatClampNeg + i) .null = elV σ (k0 + 1) a (sp.toNatClampNeg + i) := by
    intro i hi
    rw [Array.getD_eq_getD_getElem?, g5 _ (by omega)]
    rfl
  have hml : lsA.size = c.maxLocals := by rw [C.2.2.2.2.1]; exact hl0.1
  obtain ⟨vm', X', step⟩ := X.arraycopy C.1 C.own (C.hts _ hl) (C.hts _ hnat) (C.hts _ hst) (C.hts _ hini) (src := a) (dst := b) (cs := cs) (cd := cd) (srcPos := sp) (destPos := dp) (n := n) (by rw [hT]; exact g1) (by rw [hT]; exact f1)
    (fun q h => by have := g3.stat; rw [h] at this; cases this) (fun q h => by have := f3.stat; rw [h] at this; cases this) g3.known f3.known hks hkd hsk hdk (by simp) o3 o4 o5
    (by rw [nat_of_nn o3, nat_of_nn o5, g4]; omega) (by rw [nat_of_nn o4, nat_of_nn o5, f4]; omega)
    (fun vm₁ hal i hi => by
      rw [hgetD i hi]
      rcases hvals i hi with ⟨r3, x, hx, hxo⟩ | ⟨r1, hx⟩ | ⟨r0, x, hx⟩
      · subst r3
        cases hk0
        rw [hx]
        cases x with
        | none => exact ⟨rfl, trivial⟩
        | some y =>
          have hv5 : 5 ≤ σ.ob y ∧ σ.ob y < 22 := by simpa [okR] using hxo
          obtain ⟨cv, hcv⟩ : ∃ cv, σ.ob y = cv + 5 := ⟨σ.ob y - 5, by omega⟩
          obtain ⟨qv, hqv⟩ : ∃ qv, clG[cv]? = some qv := by
            have : cv < clG.length := by show cv < 18; omega
            exact ⟨_, List.getElem?_eq_getElem this⟩
          obtain ⟨cellV, v1, v2, v3⟩ := hR.obj C.kt hqv hcv
          obtain ⟨kA, comp, r1, r2, r3, -⟩ := (C.kt.2.1 3 _ rfl).2
          rw [← f2] at r1
          cases hkd.symm.trans r1
          cases hdk.symm.trans r2
          obtain ⟨kC, hkC, -⟩ := Vm.findClass_spec v3
          obtain ⟨kE, hkE, -⟩ := Vm.findClass_spec r3
          obtain ⟨kC', hkC', -⟩ := hal.2.2 _ _ hkC
          obtain ⟨kE', hkE', -⟩ := hal.2.2 _ _ hkE
          refine ⟨rfl, cellV, (show T.heap[y]? = some cellV by rw [hT]; exact v1), (fun q h => by rw [h] at v2; cases v2), ⟨kC', hkC'⟩, ?_, ?_⟩
          · exact ⟨kE', hkE'⟩
          · show vm₁.assignable _ _ = true
            rw [hal.assignable]
            obtain ⟨c0, t0, w1, w2, w3⟩ := Cond.castable_spec (va_Nw.use (A := args) rfl (C.kt.2.2.1 _ (castObj cv qv (by omega) hqv)))
            cases v3.symm.trans w1
            cases r3.symm.trans w2
            exact w3
      · subst r1
        cases hk0
        rw [hx]
        exact ⟨okB_fits (g6 rfl _ (by omega)), trivial⟩
      · subst r0
        cases hk0
        rw [hx]
        exact ⟨rfl, trivial⟩)
    (g := F0 m pc lsA (.int n :: .int dp :: .ref b :: .int sp :: .ref a :: mS st)) rfl hml (rest := mS st) rfl (by rw [C.2.1]; exact hd) hfr (by rw [mS_cat]; show 2 * 0 + _ + _ ≤ Y.2.2.2.2.2.1; omega)
  have hbl : b < H.size := (Array.getElem?_eq_some_iff.mp f1).1
  obtain ⟨s1, s2, s3, -, -⟩ := Cell.storeRun_facts cd dp.toNatClampNeg (cs.stretch sp.toNatClampNeg n.toNatClampNeg)
  generalize hcc : copied cs cd sp dp n = cc at X' step
  have hheap : ((T.setVm vm').setCell b cc).heap = H.setIfInBounds b cc := by rw [← hT]; rfl
  have oq : ∀ q : Nat, q ≠ b → (H.setIfInBounds b cc)[q]? = H[q]? := fun q hq => by simp [Array.getElem?_setIfInBounds, Ne.symm hq]
  have hA : Fre σ0 b := hX.fre (Or.inl ⟨o8, by rw [o2]; omega⟩)
  have hloeq : τ.lo = σ.lo := by simp only [St.lo, hn]
  have hR' : HR G τ (H.setIfInBounds b cc) := by
    refine hR.put (a := b) hn hob hln hso (by simp) oq ⟨fun k2 ty2 hk2 ho2 => ?_, fun c2 q2 hq2 ho2 => ?_, fun _ => by simpa using hbl⟩
    · rw [hob, o2] at ho2
      obtain rfl : k2 = k0 := by omega
      refine ⟨cc, by simp [Array.getElem?_setIfInBounds, hbl], by rw [← hcc]; exact s1.trans f2, ?_, ?_, fun j hj => ?_, fun e j hj => ?_⟩
      · rw [hloeq]
        rcases f3 with f3 | f3
        · exact Or.inl (by rw [← hcc]; exact s2.trans f3)
        · omega
      · rw [← hcc, hln]
        exact s3.trans f4
      · rw [hln] at hj
        rw [← hcc]
        refine (Cell.storeRun_get cd dp.toNatClampNeg _ j (by rw [stretch_len, f4]; exact o7)).trans ?_
        rw [stretch_len, hv j]
        by_cases hin : dp.toNatClampNeg ≤ j ∧ j < dp.toNatClampNeg + n.toNatClampNeg
        · rw [if_pos hin, if_pos hin, stretch_get _ _ _ _ (by omega), hgetD _ (by omega)]
        · rw [if_neg hin, if_neg hin, f5 j hj]
      · rw [hln] at hj
        exact hfit e (g6 e) (f6 e) j hj
    · rw [hob, o2] at ho2
      omega
  have hS' : va_S (Fre σ0) s.heap (H.setIfInBounds b cc) (locs ++ (cs.stretch sp.toNatClampNeg n.toNatClampNeg).zipIdx.map fun q => ⟨b, dp.toNatClampNeg + q.2⟩) := by
    refine ⟨by simpa using hS.1, fun q g1 g2 => ?_, fun q hq => ?_⟩
    · rw [oq q (fun e => g2 (by rw [e]; exact hA))]
      exact hS.2.1 q g1 g2
    · rcases List.mem_append.mp hq with h | h
      · exact hS.2.2 q h
      · obtain ⟨z, -, hz⟩ := List.mem_map.mp h
        rw [← hz]
        exact hA
  have hW := k p l e s m args below meth c C _ _ lsA hR' (hX.put hn hob) hS' hl0
  have z1 : τ.sz = σ.sz := by simp only [St.sz, hn]
  have z2 : τ.rs = σ.rs := by simp only [St.rs, hn]
  rw [z1, z2] at hW
  obtain ⟨t, a1, b1⟩ := hW _ hheap X'
  exact ⟨t, step t a1, b1⟩
theorem cpF_el {α β : Type} (mk : α → β) (f g : Nat → α) (sp dp n j : Nat) : mk (cpF f g sp dp n j) = if dp ≤ j ∧ j < dp + n then mk (f (sp + (j - dp))) else mk (g j) := by
  unfold cpF
  split <;> rfl
theorem go_cpI {k0 idx : Nat} {ty : FieldType} {r r2 : Option Nat} {sp dp n : Int32} {K : St → Option ζ} (hk0 : arrT[k0]? = some ty) (hk2 : k0 < 2) (hl : Cond.methodLink Y.1 idx arraycopyName ∈ lw_all) (hnat : Cond.native arraycopyName ∈ lw_all) (hst : Cond.static arraycopyName ∈ lw_all) (hini : Cond.initialized "java/lang/System" ∈ lw_all) (hfr : 1 ≤ Y.2.2.2.2.1) (hlo : (st.map vc).sum + (nativeFrameWords "java/lang/System" "arraycopy" 5 + 11) ≤ Y.2.2.2.2.2.1) (hd : decode Y.2.1 pc = .ok (.invokestatic idx, 3)) (h : cpI σ (k0 + 1) r sp r2 dp n K = some z)
    (k : ∀ τ, K τ = some z → Go G Y σ0 σE rE (pc + 3) ls st τ) : Go G Y σ0 σE rE pc ls (iV n :: iV dp :: rV r2 :: iV sp :: rV r :: st) σ := by
  obtain ⟨a, ea, h1⟩ := xN_el h
  subst ea
  obtain ⟨b, eb, h2⟩ := xN_el h1
  subst eb
  clear h h1
  have h := h2
  obtain ⟨hO, h⟩ := if_el h
  obtain ⟨o1, o2, o3, o4, o5, o6, o7, o8⟩ := cpOK_el hO
  have hel : ∀ (τ : St) x j, elV τ (k0 + 1) x j = .int (τ.ai x j) := fun τ x j => if_pos (by omega)
  refine go_cp (τ := σ.aI b (cpF (σ.ai a) (σ.ai b) sp.toNatClampNeg dp.toNatClampNeg n.toNatClampNeg)) hk0 hO hl hnat hst hini hfr hlo hd rfl rfl rfl (fun b2 hb2 => ⟨fun _ => rfl, fun _ => rfl, up1_ne hb2, rfl, rfl⟩) (fun j => ?_) (fun _ ha hb j hj => ?_) (fun i hi => ?_) (k _ h)
  · rw [hel, hel, hel]
    show Value.int (up1 σ.ai b _ b j) = _
    rw [up1_eq]
    exact cpF_el Value.int _ _ _ _ _ _
  · show okB (up1 σ.ai b _ b j) = true
    rw [up1_eq]
    unfold cpF
    split
    · next hin => exact ha _ (by omega)
    · exact hb j hj
  · rcases Nat.lt_or_ge k0 1 with q | q
    · exact Or.inr (Or.inr ⟨by omega, _, hel _ _ _⟩)
    · exact Or.inr (Or.inl ⟨by omega, hel _ _ _⟩)
theorem go_cpR {idx : Nat} {r r2 : Option Nat} {sp dp n : Int32} {K : St → Option ζ} (hl : Cond.methodLink Y.1 idx arraycopyName ∈ lw_all) (hnat : Cond.native arraycopyName ∈ lw_all) (hst : Cond.static arraycopyName ∈ lw_all) (hini : Cond.initialized "java/lang/System" ∈ lw_all) (hfr : 1 ≤ Y.2.2.2.2.1) (hlo : (st.map vc).sum + (nativeFrameWords "java/lang/System" "arraycopy" 5 + 11) ≤ Y.2.2.2.2.2.1) (hd : decode Y.2.1 pc = .ok (.invokestatic idx, 3)) (h : cpR σ r sp r2 dp n K = some z)
    (k : ∀ τ, K τ = some z → Go G Y σ0 σE rE (pc + 3) ls st τ) : Go G Y σ0 σE rE pc ls (iV n :: iV dp :: rV r2 :: iV sp :: rV r :: st) σ := by
  obtain ⟨a, ea, h1⟩ := xN_el h
  subst ea
  obtain ⟨b, eb, h2⟩ := xN_el h1
  subst eb
  clear h h1
  have h := h2
  obtain ⟨hO, h⟩ := if_el h
  simp only [Bool.and_eq_true, List.all_eq_true, List.mem_range] at hO
  obtain ⟨hO, hall⟩ := hO
  refine go_cp (k0 := 3) (τ := σ.aR b (cpF (σ.ar a) (σ.ar b) sp.toNatClampNeg dp.toNatClampNeg n.toNatClampNeg)) rfl hO hl hnat hst hini hfr hlo hd rfl rfl rfl (fun b2 hb2 => ⟨fun _ => rfl, fun _ => rfl, rfl, rfl, up1_ne hb2⟩) (fun j => ?_) (fun q => by cases q) (fun i hi => ?_) (k _ h)
  · show va_rf (up1 σ.ar b _ b j) = if _ then va_rf _ else va_rf _
    rw [up1_eq]
    exact cpF_el va_rf _ _ _ _ _ _
  · exact Or.inl ⟨rfl, _, rfl, hall i hi⟩
end RW
