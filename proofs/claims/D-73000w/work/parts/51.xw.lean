/-! THE COMPONENT: where someone is, who sees, eyes, wits -/
set_option maxRecDepth 100000
theorem X_has {s0 : St} {s k : Nat} (hs : s < 2147483648) (hk : k < 32) : sX1_has s0 (nI s) (nI k) = some (nI (b1 (s.testBit k))) := M_hasBit (s0 := s0) hs hk
theorem place_gl (R : Nat → Nat) (m t b : Nat) : itN (fun k p => if R (50 + 3 * k) = m ∧ R (52 + 3 * k) ≤ t then R (51 + 3 * k) else p) (R 4) 0 b = (gl R m).foldl (fun p k => if R (52 + 3 * k) ≤ t then R (51 + 3 * k) else p) b := by
  rw [itN_fold, gl, List.foldl_filter, List.range_eq_range']
  congr 1
  funext p k
  by_cases h : R (50 + 3 * k) = m <;> simp [h]
theorem X_atP {σ : St} {w : Nat → Nat → Nat} {R : Nat → Nat} (h : XT σ w R) (hw : WF R) {m t : Nat} (hm : m < R 3) (ht : t < 60) : sX9_at σ (w 1 m) (nI t) = some (nI (itN (fun k p => if R (50 + 3 * k) = m ∧ R (52 + 3 * k) ≤ t then R (51 + 3 * k) else p) (R 4) 0 (R (27 + 4 * m)))) := by
  have hl := gl_len R m
  have h4 := hw.2.2.2.2.2.1
  rw [place_gl]
  unfold sX9_at
  rw [h.p65 hw hm]
  have hc := loop_K (fun n b k => sX9_at_L7 σ (w 1 m) (nI t) n b k) (fun j => nI (((gl R m).take j).foldl (fun p k => if R (52 + 3 * k) ≤ t then R (51 + 3 * k) else p) (R (27 + 4 * m)))) (gl R m).length (nI ((gl R m).foldl (fun p k => if R (52 + 3 * k) ≤ t then R (51 + 3 * k) else p) (R (27 + 4 * m)))) (by omega) (fun n j hj => by
      have hg := gl_lt R m hj
      have hk := hw.2.2.2.2.2.2.2.2.2.2.1 _ hg.1
      have e : (gl R m)[j] = (gl R m).getD j 0 := by rw [List.getD_eq_getElem?_getD, List.getElem?_eq_getElem hj]; rfl
      simp (disch := omega) only [sX9_at_L7, lit_nI, h.p68 hw hm, h.p1033 hw hm, h.p1034 hw hm, nI_le', if_neg (Nat.not_le.mpr hj), h.pmin hw hm hj, h.ppl hw hm hj, nI_lt', nI_add, List.take_succ_eq_append_getElem hj, List.foldl_append, List.foldl_cons, List.foldl_nil, e]
      by_cases hc : t < R (52 + 3 * (gl R m).getD j 0)
      · rw [if_pos hc, if_neg (Nat.not_le.mpr hc), bp_s]
      · rw [if_neg hc, if_pos (Nat.not_lt.mp hc), bp_s]) (fun n => by
      simp (disch := omega) only [sX9_at_L7, lit_nI, h.p68 hw hm, nI_le', Nat.le_refl, if_true, List.take_length])
  simp only [List.take_zero, List.foldl_nil] at hc
  simp only [lit_nI]
  rw [hc, bp_s]
theorem X_at {σ : St} {w : Nat → Nat → Nat} {R S : Nat → Nat} {s : Nat} (h : XT σ w R) (hw : WF R) (hs : SH σ s (w 0 0)) (hc : SC σ s S) (hb : TB S) {m t : Nat} (hm : m < R 3) (ht : t < 60) : sX14_at σ s (nI m) (nI t) = some (nI (placeS R S m t)) := by
  have h6 := hw.2.2.2.2.1
  have hm6 : m < 6 := by omega
  have hS := hb.1 m hm6
  unfold sX14_at placeS
  rw [hs.r1036, hs.l hc hm6]
  by_cases h0 : S m = 0
  · have e : dv_at σ (w 1 m) (nI t) = sX9_at σ (w 1 m) (nI t) := by
      obtain ⟨k, hk, e⟩ := h.kk hw hm
      unfold dv_at
      match k, hk, e with
      | 0, _, e => rw [if_pos e]
      | 1, _, e => rw [if_neg (by omega), if_pos e]
      | 2, _, e => rw [if_neg (by omega), if_neg (by omega), if_pos e]
      | 3, _, e => rw [if_neg (by omega), if_neg (by omega), if_neg (by omega), if_pos e]
    rw [h0, if_pos (show oI 0 = -2 from rfl), if_neg (show ¬ 0 < 0 by omega), hs.r1035, h.i10, h.pg hw hm, bp_s, xN_s, e, X_atP h hw hm ht, bp_s]
  · have hne : ¬ oI (S m) = -2 := by
      rw [m2, oI_m2 (by omega)]
      exact h0
    rw [if_neg hne, if_pos (show 0 < S m by omega), hs.r1036, hs.l hc hm6, oI_p (by omega)]
/-- places from which one sees into p -/
def ontoS (R : Nat → Nat) (br p : Nat) : Nat := itN (fun k s => s ||| if br.testBit k = false ∧ R (11 + 2 * k) = p then 2 ^ R (10 + 2 * k) else 0) (R 2) 0 (2 ^ p)
theorem onto_into (R : Nat → Nat) (br p q : Nat) : (ontoS R br p).testBit q = (intoS R br q).testBit p := by
  unfold ontoS intoS
  rw [itN_bit, itN_bit]
  congr 1
  · rw [Nat.testBit_two_pow, Nat.testBit_two_pow]
    exact decide_eq_decide.mpr eq_comm
  · congr 1
    funext k
    by_cases h1 : br.testBit k = false <;> by_cases h2 : R (11 + 2 * k) = p <;> by_cases h3 : R (10 + 2 * k) = q <;> simp [h1, h2, h3, Nat.testBit_two_pow]
theorem X_onto {σ : St} {w : Nat → Nat → Nat} {R S : Nat → Nat} {s : Nat} (h : XT σ w R) (hw : WF R) (hs : SH σ s (w 0 0)) (hc : SC σ s S) (hb : TB S) {p : Nat} (hp : p < 6) : sX14_onto σ s (nI p) = some (nI (ontoS R (S 6) p)) ∧ ontoS R (S 6) p < 64 := by
  have hw0 := hw
  obtain ⟨w0, w1, w2, w3, w4, w5, w6, w7, w8, w9, w10, w11, w12, w13⟩ := hw
  have h6 := hb.2
  unfold sX14_onto ontoS
  obtain ⟨hl, hb⟩ := loop_FU (fun n b k => sX14_onto_L6 σ s (nI p) n (nI b) k) (fun k s => s ||| if (S 6).testBit k = false ∧ R (11 + 2 * k) = p then 2 ^ R (10 + 2 * k) else 0) nI (R 2) (fun k b => b < 64) (by omega) (2 ^ p) (pow_le_of (n := 6) hp) (fun n k b hk _ => by
      have hg := w8 k hk
      simp (disch := omega) only [sX14_onto_L6, lit_nI, hs.r1035, h.r4, h.i4, h.s4, bp_s, nI_le', if_neg (Nat.not_le.mpr hk), hs.g77 hc, X_has, b1_0, h.sg hk hw0, h.s15 hk, h.s64 hk, h.s63 hk, nI_eq', nI_shl1, nI_or, nI_add]
      cases c2 : (S 6).testBit k
      · by_cases c1 : R (11 + 2 * k) = p
        · simp [c1, bp_s]
        · simp [c1, bp_s]
      · simp [bp_s]) (fun k b hk hb => by
      have hg := w8 k hk
      refine Nat.or_lt_two_pow (n := 6) hb ?_
      split
      · exact pow_le_of (by omega)
      · decide) (fun n b _ => by
      simp (disch := omega) only [sX14_onto_L6, lit_nI, hs.r1035, h.r4, h.i4, h.s4, bp_s, nI_le', Nat.le_refl, if_true])
  simp (disch := omega) only [lit_nI, nI_shl1]
  exact ⟨by rw [hl, bp_s], hb⟩
theorem X_into {σ : St} {w : Nat → Nat → Nat} {R S : Nat → Nat} {s : Nat} (h : XT σ w R) (hw : WF R) (hs : SH σ s (w 0 0)) (hc : SC σ s S) (hb : TB S) {p : Nat} (hp : p < 6) : sX14_into σ s (nI p) = some (nI (intoS R (S 6) p)) := by
  have hw0 := hw
  obtain ⟨w0, w1, w2, w3, w4, w5, w6, w7, w8, w9, w10, w11, w12, w13⟩ := hw
  have h6 := hb.2
  unfold sX14_into intoS
  obtain ⟨hl, hb⟩ := loop_FU (fun n b k => sX14_into_L6 σ s (nI p) n (nI b) k) (fun k s => s ||| if R (10 + 2 * k) = p ∧ (S 6).testBit k = false then 2 ^ R (11 + 2 * k) else 0) nI (R 2) (fun k b => True) (by omega) (2 ^ p) trivial (fun n k b hk _ => by
      have hg := w8 k hk
      simp (disch := omega) only [sX14_into_L6, lit_nI, hs.r1035, h.r4, h.i4, h.s4, bp_s, nI_le', if_neg (Nat.not_le.mpr hk), hs.g77 hc, X_has, b1_0, h.sg hk hw0, h.s15 hk, h.s64 hk, h.s63 hk, nI_eq', nI_shl1, nI_or, nI_add]
      cases c2 : (S 6).testBit k
      · by_cases c1 : R (10 + 2 * k) = p
        · simp [c1, bp_s]
        · simp [c1, bp_s]
      · simp [bp_s]) (fun k b hk hb => trivial) (fun n b _ => by
      simp (disch := omega) only [sX14_into_L6, lit_nI, hs.r1035, h.r4, h.i4, h.s4, bp_s, nI_le', Nat.le_refl, if_true])
  simp (disch := omega) only [lit_nI, nI_shl1]
  rw [hl, bp_s]
theorem place_lt {R S : Nat → Nat} (hw : WF R) (hb : TB S) {m t : Nat} (hm : m < R 3) : placeS R S m t < 6 := by
  obtain ⟨w0, w1, w2, w3, w4, w5, w6, w7, w8, w9, w10, w11, w12, w13⟩ := hw
  have hS := hb.1 m (by omega)
  unfold placeS
  split
  · omega
  · refine itN_inv (K := R 4) (fun k b => b < 6) (fun k b hk hb => ?_) (R 4) 0 _ (by omega) (by have := (w9 m hm).2.1; omega)
    have := w10 k hk
    split
    · omega
    · exact hb
theorem X_watchers {σ : St} {w : Nat → Nat → Nat} {R S : Nat → Nat} {s : Nat} (h : XT σ w R) (hw : WF R) (hs : SH σ s (w 0 0)) (hc : SC σ s S) (hb : TB S) {p t : Nat} (hp : p < 6) (ht : t < 60) : sX14_watchers σ s (nI p) (nI t) = some (nI (watchS R S p t)) ∧ watchS R S p t < 64 := by
  have w5 : R 3 ≤ 6 := hw.2.2.2.2.1
  obtain ⟨ho, ho6⟩ := X_onto h hw hs hc hb hp
  unfold sX14_watchers watchS
  obtain ⟨hl, hb⟩ := loop_FU (fun n b k => sX14_watchers_L12 σ s (nI t) (nI (ontoS R (S 6) p)) n (nI b) k) (fun m u => u ||| b1 ((intoS R (S 6) (placeS R S m t)).testBit p) * 2 ^ m) nI (R 3) (fun k b => b < 64) (by omega) 0 (by decide) (fun n k b hk _ => by
      have hpl := place_lt (t := t) hw hb hk
      simp (disch := omega) only [sX14_watchers_L12, lit_nI, hs.r1035, h.r2, h.i2, h.s2, bp_s, nI_le', if_neg (Nat.not_le.mpr hk), hs.k21, X_at h hw hs hc hb hk ht, X_has, b1_0, nI_shl1, onto_into]
      cases (intoS R (S 6) (placeS R S k t)).testBit p
      · simp [bp_s, nI_or, nI_add, b1]
      · simp [bp_s, nI_or, nI_add, b1]) (fun k b hk hb => by
      refine Nat.or_lt_two_pow (n := 6) hb ?_
      have := pow_le_of (a := k) (n := 6) (by omega)
      unfold b1
      split <;> omega) (fun n b _ => by
      simp (disch := omega) only [sX14_watchers_L12, lit_nI, hs.r1035, h.r2, h.i2, h.s2, bp_s, nI_le', Nat.le_refl, if_true])
  simp only [lit_nI]
  exact ⟨by rw [hs.k21, ho, bp_s, hl, bp_s], hb⟩
/-- the desk object: its own arrays and lists lie behind it -/
def XO (σ : St) (x : Nat) : Prop := σ.ob x = 5 ∧ σ.lo ≤ x ∧ (σ.fr 1000 x = some (x + 1) ∧ σ.fr 1004 x = some (x + 2) ∧ σ.fr 1005 x = some (x + 3) ∧ σ.fr 1006 x = some (x + 4) ∧ σ.fr 1007 x = some (x + 5)) ∧
  (σ.ob (x + 1) = 2 ∧ σ.ob (x + 2) = 6 ∧ σ.ob (x + 3) = 6 ∧ σ.ob (x + 4) = 1 ∧ σ.ob (x + 5) = 3) ∧ (σ.ln (x + 1) = 900 ∧ σ.ln (x + 4) = 4 ∧ σ.ln (x + 5) = 3)
/-- the desk with a town: w 0 1 the scene, w 0 2 the one that is tried -/
def XD (σ : St) (x : Nat) (w : Nat → Nat → Nat) : Prop := XO σ x ∧ σ.fr 1001 x = some (w 0 0) ∧ σ.fr 1002 x = some (w 0 1) ∧ σ.fr 1003 x = some (w 0 2) ∧ SH σ (w 0 1) (w 0 0) ∧ SH σ (w 0 2) (w 0 0) ∧ w 0 1 ≠ w 0 2
section
variable {σ : St} {w : Nat → Nat → Nat} {R : Nat → Nat} {x : Nat} {α : Type}
theorem XD.r1001 (h : XD σ x w) (k : Option Nat → Option α) : gR σ 1001 (some x) k = k (some (w 0 0)) := by rw [g1001_5 h.1.1, h.2.1]
theorem XD.r1002 (h : XD σ x w) (k : Option Nat → Option α) : gR σ 1002 (some x) k = k (some (w 0 1)) := by rw [g1002_5 h.1.1, h.2.2.1]
theorem XD.r1003 (h : XD σ x w) (k : Option Nat → Option α) : gR σ 1003 (some x) k = k (some (w 0 2)) := by rw [g1003_5 h.1.1, h.2.2.2.1]
theorem XD.k5 (h : XD σ x w) (k : Option α) : kd σ x 5 k = k := kd_ob h.1.1 k
theorem XD.s1 (h : XD σ x w) : SH σ (w 0 1) (w 0 0) := h.2.2.2.2.1
theorem XD.s2 (h : XD σ x w) : SH σ (w 0 2) (w 0 0) := h.2.2.2.2.2.1
theorem X_places (h : XD σ x w) (ht : XT σ w R) : sX1_places σ x = some (nI (R 1)) := by unfold sX1_places; rw [h.r1001, ht.r1, ht.i1, ht.s1, bp_s]
theorem X_people (h : XD σ x w) (ht : XT σ w R) : sX1_people σ x = some (nI (R 3)) := by unfold sX1_people; rw [h.r1001, ht.r2, ht.i2, ht.s2, bp_s]
theorem X_quarrels (h : XD σ x w) (ht : XT σ w R) : sX1_quarrels σ x = some (nI (R 5)) := by unfold sX1_quarrels; rw [h.r1001, ht.r3, ht.i3, ht.s3, bp_s]
theorem X_sights (h : XD σ x w) (ht : XT σ w R) : sX1_sights σ x = some (nI (R 2)) := by unfold sX1_sights; rw [h.r1001, ht.r4, ht.i4, ht.s4, bp_s]
end
/-- who is taken for plain; the eyes of each then -/
def plI (pl : Option Nat) : Int32 := match pl with
  | none => zI (-1)
  | some p => nI p
def eyP (R : Nat → Nat) (pl : Option Nat) (i : Nat) : Nat := if pl = some i then 2 else eyeK (R (26 + 4 * i))
theorem eyP_le (R : Nat → Nat) (pl : Option Nat) (i : Nat) : eyP R pl i ≤ 2 := by
  unfold eyP eyeK
  split
  · omega
  · split
    · omega
    · split <;> omega
theorem X_dvEyes {σ : St} {w : Nat → Nat → Nat} {R : Nat → Nat} (h : XT σ w R) (hw : WF R) {p : Nat} (hp : p < R 3) : dv_eyes σ (w 1 p) = some (nI (eyeK (R (26 + 4 * p)))) := by
  have hk := (hw.2.2.2.2.2.2.2.2.2.1 p hp).1
  have e := (h.pp hp).1
  unfold dv_eyes eyeK
  generalize R (26 + 4 * p) = k at hk e ⊢
  match k, hk, e with
  | 0, _, e => rw [if_pos e]; rfl
  | 1, _, e => rw [if_neg (by omega), if_pos e]; rfl
  | 2, _, e => rw [if_neg (by omega), if_neg (by omega), if_pos e]; rfl
  | 3, _, e =>
    rw [if_neg (by omega), if_neg (by omega), if_neg (by omega), if_pos e]
    unfold sX12_eyes
    rw [kd_ob e]
    rfl
theorem X_dvKind {σ : St} {w : Nat → Nat → Nat} {R : Nat → Nat} (h : XT σ w R) (hw : WF R) {p : Nat} (hp : p < R 3) : dv_kind σ (w 1 p) = some (nI (R (26 + 4 * p))) := by
  have hk := (hw.2.2.2.2.2.2.2.2.2.1 p hp).1
  have e := (h.pp hp).1
  unfold dv_kind
  generalize R (26 + 4 * p) = k at hk e ⊢
  match k, hk, e with
  | 0, _, e => rw [if_pos e]; rfl
  | 1, _, e => rw [if_neg (by omega), if_pos e]; rfl
  | 2, _, e => rw [if_neg (by omega), if_neg (by omega), if_pos e]; rfl
  | 3, _, e => rw [if_neg (by omega), if_neg (by omega), if_neg (by omega), if_pos e]; rfl
theorem X_eyesOf {σ : St} {x : Nat} {w : Nat → Nat → Nat} {R : Nat → Nat} (hd : XD σ x w) (h : XT σ w R) (hw : WF R) {pl : Option Nat} (hpl : σ.fi 4 x = plI pl) (hpm : ∀ q, pl = some q → q < 6) {p : Nat} (hp : p < R 3) : sX1_eyesOf σ x (nI p) = some (nI (eyP R pl p)) := by
  have h6 := hw.2.2.2.2.1
  unfold sX1_eyesOf eyP
  rw [g4_5 hd.1.1, hpl]
  have e : (nI p = plI pl) = (pl = some p) := by
    match pl, hpm with
    | none, _ => unfold plI; rw [nI_ne_z (by omega) (by omega) (by omega)]; simp
    | some q, hpm =>
      have := hpm q rfl
      unfold plI
      rw [nI_eq' (by omega) (by omega)]
      simp [eq_comm]
  by_cases hc : pl = some p
  · rw [if_pos (by rw [e]; exact hc), if_pos hc]; rfl
  · rw [if_neg (by rw [e]; exact hc), if_neg hc, hd.r1001, h.i10, h.pg hw hp, bp_s, xN_s, X_dvEyes h hw hp, bp_s]
theorem X_eyesAll {σ : St} {x : Nat} {w : Nat → Nat → Nat} {R : Nat → Nat} (hd : XD σ x w) (h : XT σ w R) (hw : WF R) {pl : Option Nat} (hpl : σ.fi 4 x = plI pl) (hpm : ∀ q, pl = some q → q < 6) {s : Nat} (hs : s < 2147483648) : sX1_eyesOfAll σ x (nI s) = some (nI (eyesS R (eyP R pl) s)) ∧ eyesS R (eyP R pl) s ≤ 12 := by
  have h6 := hw.2.2.2.2.1
  unfold sX1_eyesOfAll
  obtain ⟨hl, hb⟩ := loop_FU (fun n b k => sX1_eyesOfAll_L4 σ x (nI s) n (nI b) k) (fun m n => n + b1 (s.testBit m) * eyP R pl m) nI (R 3) (fun k b => b ≤ 2 * k) (by omega) 0 (by omega) (fun n k b hk _ => by
      simp (disch := omega) only [sX1_eyesOfAll_L4, lit_nI, hd.k5, X_people hd h, bp_s, nI_le', if_neg (Nat.not_le.mpr hk), X_has, b1_0, X_eyesOf hd h hw hpl hpm hk]
      cases s.testBit k
      · simp [bp_s, nI_add, b1]
      · simp [bp_s, nI_add, b1]) (fun k b hk hb => by
      have := eyP_le R pl k
      cases s.testBit k <;> simp [b1] <;> omega) (fun n b _ => by
      simp (disch := omega) only [sX1_eyesOfAll_L4, lit_nI, hd.k5, X_people hd h, bp_s, nI_le', Nat.le_refl, if_true])
  refine ⟨?_, Nat.le_trans hb (by omega)⟩
  simp only [lit_nI]
  rw [hl, bp_s]
  rfl
/-- wits, some of the unsure ones having the other one -/
def witS (R : Nat → Nat) (oth p : Nat) : Nat := itN (fun k v => if R (95 + 2 * k) = p ∧ oth.testBit k = true then R (96 + 2 * k) else v) (R 7) 0 (R (28 + 4 * p))
theorem witS_le {R : Nat → Nat} (hw : WF R) (oth : Nat) {p : Nat} (hp : p < R 3) : witS R oth p ≤ 9 := by
  obtain ⟨w0, w1, w2, w3, w4, w5, w6, w7, w8, w9, w10, w11, w12, w13⟩ := hw
  refine itN_inv (K := R 7) (fun k b => b ≤ 9) (fun k b hk hb => ?_) (R 7) 0 _ (by omega) (by have := (w9 p hp).2.2.1; omega)
  have := w12 k hk
  split
  · omega
  · exact hb
/-- none behind k is p's -/
theorem witS_out {R : Nat → Nat} (oth p : Nat) : ∀ d k v, (∀ j, k ≤ j → j < k + d → ¬ (R (95 + 2 * j) = p ∧ oth.testBit j = true)) → itN (fun k v => if R (95 + 2 * k) = p ∧ oth.testBit k = true then R (96 + 2 * k) else v) d k v = v := by
  intro d
  induction d with
  | zero => intro k v _; rfl
  | succ d ih =>
    intro k v h
    show itN _ d (k + 1) (if R (95 + 2 * k) = p ∧ oth.testBit k = true then R (96 + 2 * k) else v) = v
    rw [if_neg (h k (by omega) (by omega))]
    exact ih (k + 1) v (fun j h1 h2 => h j (by omega) (by omega))
theorem X_witOf {σ : St} {x : Nat} {w : Nat → Nat → Nat} {R : Nat → Nat} (hd : XD σ x w) (h : XT σ w R) (hw : WF R) {oth : Nat} (ho : σ.fi 5 x = nI oth) (ho6 : oth < 2147483648) {p : Nat} (hp : p < R 3) : sX1_witOf σ x (nI p) = some (nI (witS R oth p)) := by
  have hw0 := hw
  obtain ⟨w0, w1, w2, w3, w4, w5, w6, w7, w8, w9, w10, w11, w12, w13⟩ := hw
  unfold sX1_witOf
  have hl := Wp_loop (fun n (_ : Unit) k => sX1_witOf_L2 σ x (nI p) n (nI k)) (R 7) (fun k _ => witS R oth p = itN (fun k v => if R (95 + 2 * k) = p ∧ oth.testBit k = true then R (96 + 2 * k) else v) (R 7 - k) k (R (28 + 4 * p))) (Q := fun v => v = .inl (nI (witS R oth p)) ∨ (v = .inr () ∧ witS R oth p = R (28 + 4 * p))) (by omega) (fun n k _ hk hi hs => by
      have hpr : p < 2147483648 := by omega
      by_cases hkk : k = R 7
      · subst hkk
        refine ⟨.inr (), ?_, Or.inr ⟨rfl, ?_⟩⟩
        · simp (disch := omega) only [sX1_witOf_L2, lit_nI, hd.r1001, h.g52, nI_le', Nat.le_refl, if_true]
        · rw [hi, Nat.sub_self]; rfl
      · have hk' : k < R 7 := by omega
        have hu := w12 k hk'
        simp (disch := omega) only [sX1_witOf_L2, lit_nI, hd.r1001, h.g52, nI_le', if_neg (Nat.not_le.mpr hk'), h.r5, h.u5 hk' w7, nI_eq', g5_5 hd.1.1, ho, X_has, bp_s, b1_0, nI_add, h.i10, h.pg hw0 hp, gP67 (h.kk hw0 hp)]
        have hstep : ¬ (R (95 + 2 * k) = p ∧ oth.testBit k = true) → witS R oth p = itN (fun k v => if R (95 + 2 * k) = p ∧ oth.testBit k = true then R (96 + 2 * k) else v) (R 7 - (k + 1)) (k + 1) (R (28 + 4 * p)) := fun hn => by
          rw [hi, show R 7 - k = (R 7 - (k + 1)) + 1 by omega]
          show itN _ _ (k + 1) (if R (95 + 2 * k) = p ∧ oth.testBit k = true then R (96 + 2 * k) else _) = _
          rw [if_neg hn]
        by_cases c1 : R (95 + 2 * k) = p
        · rw [if_pos c1]
          cases c2 : oth.testBit k
          · exact hs hk' () (hstep (by simp [c2]))
          · refine ⟨_, rfl, Or.inl ?_⟩
            rw [(h.pp hp).2.2.2.2.2.2.2.2 k hk' c1, hi, show R 7 - k = (R 7 - (k + 1)) + 1 by omega]
            show _ = Sum.inl (nI (itN _ _ (k + 1) (if R (95 + 2 * k) = p ∧ oth.testBit k = true then R (96 + 2 * k) else _)))
            rw [if_pos ⟨c1, c2⟩, witS_out]
            intro j h1 h2 h3
            exact (w12 j (by omega)).2.2 k (by omega) (by rw [c1, h3.1])
        · rw [if_neg c1]
          exact hs hk' () (hstep (fun q => c1 q.1))) 0 (Nat.zero_le _) () rfl
  obtain ⟨v, e, hv⟩ := hl
  have e' : sX1_witOf_L2 σ x (nI p) FU 0 = some v := e
  rw [e']
  rcases hv with rfl | ⟨rfl, hv⟩
  · rw [lc_l]
  · rw [lc_r, hd.r1001, h.i10, h.pg hw0 hp, bp_s, h.p66 hw0 hp, hv]
