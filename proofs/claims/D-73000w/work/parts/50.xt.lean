/-! THE COMPONENT: a town as it lies, scenes, the desk; reading them -/
set_option maxRecDepth 100000
section
variable {σ τ : St} {a n i : Nat} {α : Type}
theorem lR_ap (h1 : σ.ob a = 4) (hn : n < σ.ln a) (h3 : n < 2147483648) (k : Option Nat → Option α) : lR σ (some a) (nI n) k = k (σ.ar a n) := by
  show (if decide (σ.ob a = 4) && inB (nI n) (σ.ln a) then _ else none) = _
  rw [decide_eq_true h1, inB_nI hn h3, nI_clamp h3]; rfl
theorem tB_ap {len : Nat} (h1 : σ.ob a = 2) (h0 : σ.lo ≤ a) (h2 : σ.ln a = len) (hn : n < len) (hl : len < 2147483648) (x : Int32) (k : St → Option α) : tB σ (some a) (nI n) x k = k (σ.aI a (upA (σ.ai a) n x.toInt8.toInt32)) := by
  show (if (decide (σ.ob a = 2) && inB (nI n) (σ.ln a)) && decide (σ.lo ≤ a) then _ else none) = _
  rw [decide_eq_true h1, h2, inB_nI hn (by omega), nI_clamp (by omega), decide_eq_true h0]; rfl
theorem tL_ap {len : Nat} (h1 : σ.ob a = 3) (h0 : σ.lo ≤ a) (h2 : σ.ln a = len) (hn : n < len) (hl : len < 2147483648) (x : Int64) (k : St → Option α) : tL σ (some a) (nI n) x k = k (σ.aL a (upA (σ.al a) n x)) := by
  show (if (decide (σ.ob a = 3) && inB (nI n) (σ.ln a)) && decide (σ.lo ≤ a) then _ else none) = _
  rw [decide_eq_true h1, h2, inB_nI hn (by omega), nI_clamp (by omega), decide_eq_true h0]; rfl
theorem lL_ap {len : Nat} (h1 : σ.ob a = 3) (h2 : σ.ln a = len) (hn : n < len) (hl : len < 2147483648) (k : Int64 → Option α) : lL σ (some a) (nI n) k = k (σ.al a n) := by
  show (if decide (σ.ob a = 3) && inB (nI n) (σ.ln a) then _ else none) = _
  rw [decide_eq_true h1, h2, inB_nI hn (by omega), nI_clamp (by omega)]; rfl
/-- a list object l holds n elements f -/
def LQ (σ : St) (l n : Nat) (f : Nat → Nat) : Prop := σ.ob l = 6 ∧ σ.fi 18 l = nI n ∧ ∃ d, σ.fr 1008 l = some d ∧ σ.ob d = 4 ∧ n ≤ σ.ln d ∧ ∀ i, i < n → σ.ar d i = some (f i)
theorem LQ.size {l : Nat} {f : Nat → Nat} (h : LQ σ l n f) : sJ2_size σ l = some (nI n) := by
  unfold sJ2_size
  rw [g18_6 h.1, h.2.1]
theorem LQ.get {l : Nat} {f : Nat → Nat} (h : LQ σ l n f) (hn : n < 2147483648) (hi : i < n) : sJ2_get σ l (nI i) = some (some (f i)) := by
  obtain ⟨h1, h2, d, h3, h4, h5, h6⟩ := h
  unfold sJ2_get sJ12_checkIndex sJ11_checkIndex sJ2_elementData
  rw [g18_6 h1, h2, if_neg (nI_pos (by omega)), if_pos (nI_lt hi (by omega)), bp_s, bp_s, kd_ob h1, g1008_6 h1, h3, lR_ap h4 (by omega) (by omega), h6 i hi]
  rfl
end
/-- the goings of a person, by number -/
def gl (R : Nat → Nat) (p : Nat) : List Nat := (List.range (R 4)).filter fun k => decide (R (50 + 3 * k) = p)
def eI (n : Nat) : Int32 := if n = 0 then zI (-1) else nI (n - 1)
/-- a person at a -/
def XP (σ : St) (a : Nat) (R : Nat → Nat) (p : Nat) : Prop :=
  σ.ob a = 16 + R (26 + 4 * p) ∧ σ.fi 65 a = nI (R (27 + 4 * p)) ∧ σ.fi 66 a = nI (R (28 + 4 * p)) ∧ σ.fi 69 a = oI (R (29 + 4 * p)) ∧ σ.fi 68 a = nI (gl R p).length ∧
  (σ.fr 1033 a = some (a + 1) ∧ σ.fr 1034 a = some (a + 2)) ∧ (σ.ob (a + 1) = 1 ∧ σ.ln (a + 1) = 10 ∧ σ.ob (a + 2) = 1 ∧ σ.ln (a + 2) = 10) ∧
  (∀ j, j < (gl R p).length → σ.ai (a + 1) j = nI (R (52 + 3 * (gl R p).getD j 0)) ∧ σ.ai (a + 2) j = nI (R (51 + 3 * (gl R p).getD j 0))) ∧
  (∀ k, k < R 7 → R (95 + 2 * k) = p → σ.fi 67 a = nI (R (96 + 2 * k)))
/-- a quarrel at a -/
def XR (σ : St) (a : Nat) (R : Nat → Nat) (q : Nat) : Prop :=
  σ.ob a = 20 ∧ σ.fi 71 a = nI (R (80 + 5 * q)) ∧ σ.fi 72 a = nI (R (81 + 5 * q)) ∧ σ.fi 73 a = nI (R (82 + 5 * q)) ∧ σ.fi 74 a = nI (R (83 + 5 * q)) ∧ σ.fi 75 a = nI (R (84 + 5 * q)) ∧ σ.fi 76 a = eI (R (103 + q))
/-- a town: w 0 0 the town, w 1 the people, w 2 the quarrels, w 3 the sights -/
def XT (σ : St) (w : Nat → Nat → Nat) (R : Nat → Nat) : Prop :=
  σ.ob (w 0 0) = 10 ∧
  (σ.fi 49 (w 0 0) = nI (R 0) ∧ σ.fi 50 (w 0 0) = nI (R 4) ∧ σ.fi 51 (w 0 0) = nI (R 6) ∧ σ.fi 52 (w 0 0) = nI (R 7) ∧ σ.fi 53 (w 0 0) = nI (R 8)) ∧
  (σ.fr 1024 (w 0 0) = some (w 0 0 + 1) ∧ σ.fr 1025 (w 0 0) = some (w 0 0 + 2) ∧ σ.fr 1026 (w 0 0) = some (w 0 0 + 3) ∧ σ.fr 1027 (w 0 0) = some (w 0 0 + 4) ∧ σ.fr 1028 (w 0 0) = some (w 0 0 + 5)) ∧
  ((∃ f, LQ σ (w 0 0 + 1) (R 1) f) ∧ LQ σ (w 0 0 + 2) (R 3) (w 1) ∧ LQ σ (w 0 0 + 3) (R 5) (w 2) ∧ LQ σ (w 0 0 + 4) (R 2) (w 3)) ∧
  (σ.ob (w 0 0 + 5) = 1 ∧ σ.ln (w 0 0 + 5) = 4 ∧ ∀ k, k < R 7 → σ.ai (w 0 0 + 5) k = nI (R (95 + 2 * k))) ∧
  (∀ k, k < R 2 → σ.ob (w 3 k) = 15 ∧ σ.fi 63 (w 3 k) = nI (R (10 + 2 * k)) ∧ σ.fi 64 (w 3 k) = nI (R (11 + 2 * k))) ∧
  (∀ p, p < R 3 → XP σ (w 1 p) R p) ∧
  (∀ q, q < R 5 → XR σ (w 2 q) R q)
section
variable {σ : St} {w : Nat → Nat → Nat} {R : Nat → Nat} {α : Type}
theorem XT.i10 (h : XT σ w R) (k : Nat → Option α) : iv σ 10 (some (w 0 0)) k = k (w 0 0) := iv_ob h.1 k
theorem XT.g49 (h : XT σ w R) (k : Int32 → Option α) : gI σ 49 (some (w 0 0)) k = k (nI (R 0)) := by rw [g49_10 h.1, h.2.1.1]
theorem XT.g50 (h : XT σ w R) (k : Int32 → Option α) : gI σ 50 (some (w 0 0)) k = k (nI (R 4)) := by rw [g50_10 h.1, h.2.1.2.1]
theorem XT.g51 (h : XT σ w R) (k : Int32 → Option α) : gI σ 51 (some (w 0 0)) k = k (nI (R 6)) := by rw [g51_10 h.1, h.2.1.2.2.1]
theorem XT.g52 (h : XT σ w R) (k : Int32 → Option α) : gI σ 52 (some (w 0 0)) k = k (nI (R 7)) := by rw [g52_10 h.1, h.2.1.2.2.2.1]
theorem XT.g53 (h : XT σ w R) (k : Int32 → Option α) : gI σ 53 (some (w 0 0)) k = k (nI (R 8)) := by rw [g53_10 h.1, h.2.1.2.2.2.2]
theorem XT.r1 (h : XT σ w R) (k : Option Nat → Option α) : gR σ 1024 (some (w 0 0)) k = k (some (w 0 0 + 1)) := by rw [g1024_10 h.1, h.2.2.1.1]
theorem XT.r2 (h : XT σ w R) (k : Option Nat → Option α) : gR σ 1025 (some (w 0 0)) k = k (some (w 0 0 + 2)) := by rw [g1025_10 h.1, h.2.2.1.2.1]
theorem XT.r3 (h : XT σ w R) (k : Option Nat → Option α) : gR σ 1026 (some (w 0 0)) k = k (some (w 0 0 + 3)) := by rw [g1026_10 h.1, h.2.2.1.2.2.1]
theorem XT.r4 (h : XT σ w R) (k : Option Nat → Option α) : gR σ 1027 (some (w 0 0)) k = k (some (w 0 0 + 4)) := by rw [g1027_10 h.1, h.2.2.1.2.2.2.1]
theorem XT.r5 (h : XT σ w R) (k : Option Nat → Option α) : gR σ 1028 (some (w 0 0)) k = k (some (w 0 0 + 5)) := by rw [g1028_10 h.1, h.2.2.1.2.2.2.2]
theorem XT.l1 (h : XT σ w R) : ∃ f, LQ σ (w 0 0 + 1) (R 1) f := h.2.2.2.1.1
theorem XT.l2 (h : XT σ w R) : LQ σ (w 0 0 + 2) (R 3) (w 1) := h.2.2.2.1.2.1
theorem XT.l3 (h : XT σ w R) : LQ σ (w 0 0 + 3) (R 5) (w 2) := h.2.2.2.1.2.2.1
theorem XT.l4 (h : XT σ w R) : LQ σ (w 0 0 + 4) (R 2) (w 3) := h.2.2.2.1.2.2.2
theorem XT.i1 (h : XT σ w R) (k : Nat → Option α) : iv σ 6 (some (w 0 0 + 1)) k = k (w 0 0 + 1) := by obtain ⟨f, q⟩ := h.l1; exact iv_ob q.1 k
theorem XT.i2 (h : XT σ w R) (k : Nat → Option α) : iv σ 6 (some (w 0 0 + 2)) k = k (w 0 0 + 2) := iv_ob h.l2.1 k
theorem XT.i3 (h : XT σ w R) (k : Nat → Option α) : iv σ 6 (some (w 0 0 + 3)) k = k (w 0 0 + 3) := iv_ob h.l3.1 k
theorem XT.i4 (h : XT σ w R) (k : Nat → Option α) : iv σ 6 (some (w 0 0 + 4)) k = k (w 0 0 + 4) := iv_ob h.l4.1 k
theorem XT.s1 (h : XT σ w R) : sJ2_size σ (w 0 0 + 1) = some (nI (R 1)) := by obtain ⟨f, q⟩ := h.l1; exact q.size
theorem XT.s2 (h : XT σ w R) : sJ2_size σ (w 0 0 + 2) = some (nI (R 3)) := h.l2.size
theorem XT.s3 (h : XT σ w R) : sJ2_size σ (w 0 0 + 3) = some (nI (R 5)) := h.l3.size
theorem XT.s4 (h : XT σ w R) : sJ2_size σ (w 0 0 + 4) = some (nI (R 2)) := h.l4.size
theorem XT.u5 (h : XT σ w R) {n : Nat} (hn : n < R 7) (h4 : R 7 ≤ 4) (k : Int32 → Option α) : lI σ 1 (some (w 0 0 + 5)) (nI n) k = k (nI (R (95 + 2 * n))) := by
  obtain ⟨h1, h2, h3⟩ := h.2.2.2.2.1
  rw [lI_ap h1 h2 (by omega) (by omega), h3 n hn]
theorem XT.sg (h : XT σ w R) {n : Nat} (hn : n < R 2) (hw : WF R) : sJ2_get σ (w 0 0 + 4) (nI n) = some (some (w 3 n)) := h.l4.get (by have := hw.2.2.2.1; omega) hn
theorem XT.s15 (h : XT σ w R) {n : Nat} (hn : n < R 2) (k : Option α) : ck σ [15] (some (w 3 n)) k = k := ck_ob (h.2.2.2.2.2.1 n hn).1 rfl k
theorem XT.s63 (h : XT σ w R) {n : Nat} (hn : n < R 2) (k : Int32 → Option α) : gI σ 63 (some (w 3 n)) k = k (nI (R (10 + 2 * n))) := by rw [g63_15 (h.2.2.2.2.2.1 n hn).1, (h.2.2.2.2.2.1 n hn).2.1]
theorem XT.s64 (h : XT σ w R) {n : Nat} (hn : n < R 2) (k : Int32 → Option α) : gI σ 64 (some (w 3 n)) k = k (nI (R (11 + 2 * n))) := by rw [g64_15 (h.2.2.2.2.2.1 n hn).1, (h.2.2.2.2.2.1 n hn).2.2]
theorem XT.pp (h : XT σ w R) {n : Nat} (hn : n < R 3) : XP σ (w 1 n) R n := h.2.2.2.2.2.2.1 n hn
theorem XT.qq (h : XT σ w R) {n : Nat} (hn : n < R 5) : XR σ (w 2 n) R n := h.2.2.2.2.2.2.2 n hn
theorem XT.kk (h : XT σ w R) (hw : WF R) {n : Nat} (hn : n < R 3) : ∃ k, k < 4 ∧ σ.ob (w 1 n) = 16 + k := ⟨_, by have := (hw.2.2.2.2.2.2.2.2.2.1 n hn).1; omega, (h.pp hn).1⟩
theorem XT.pg (h : XT σ w R) (hw : WF R) {n : Nat} (hn : n < R 3) : sX5_person σ (w 0 0) (nI n) = some (some (w 1 n)) := by
  unfold sX5_person
  rw [h.r2, h.i2, h.l2.get (by have := hw.2.2.2.2.1; omega) hn, bp_s, ckP (h.kk hw hn)]
theorem XT.qg (h : XT σ w R) (hw : WF R) {n : Nat} (hn : n < R 5) : sX5_quarrel σ (w 0 0) (nI n) = some (some (w 2 n)) := by
  unfold sX5_quarrel
  rw [h.r3, h.i3, h.l3.get (by have := hw.2.2.2.2.2.2.1; omega) hn, bp_s, ck_ob (h.qq hn).1 rfl]
theorem XT.p65 (h : XT σ w R) (hw : WF R) {n : Nat} (hn : n < R 3) (k : Int32 → Option α) : gI σ 65 (some (w 1 n)) k = k (nI (R (27 + 4 * n))) := by rw [gP65 (h.kk hw hn), (h.pp hn).2.1]
theorem XT.p66 (h : XT σ w R) (hw : WF R) {n : Nat} (hn : n < R 3) (k : Int32 → Option α) : gI σ 66 (some (w 1 n)) k = k (nI (R (28 + 4 * n))) := by rw [gP66 (h.kk hw hn), (h.pp hn).2.2.1]
theorem XT.p69 (h : XT σ w R) (hw : WF R) {n : Nat} (hn : n < R 3) (k : Int32 → Option α) : gI σ 69 (some (w 1 n)) k = k (oI (R (29 + 4 * n))) := by rw [gP69 (h.kk hw hn), (h.pp hn).2.2.2.1]
theorem XT.p68 (h : XT σ w R) (hw : WF R) {n : Nat} (hn : n < R 3) (k : Int32 → Option α) : gI σ 68 (some (w 1 n)) k = k (nI (gl R n).length) := by rw [gP68 (h.kk hw hn), (h.pp hn).2.2.2.2.1]
theorem XT.p1033 (h : XT σ w R) (hw : WF R) {n : Nat} (hn : n < R 3) (k : Option Nat → Option α) : gR σ 1033 (some (w 1 n)) k = k (some (w 1 n + 1)) := by rw [gP1033 (h.kk hw hn), (h.pp hn).2.2.2.2.2.1.1]
theorem XT.p1034 (h : XT σ w R) (hw : WF R) {n : Nat} (hn : n < R 3) (k : Option Nat → Option α) : gR σ 1034 (some (w 1 n)) k = k (some (w 1 n + 2)) := by rw [gP1034 (h.kk hw hn), (h.pp hn).2.2.2.2.2.1.2]
theorem gl_len (R : Nat → Nat) (p : Nat) : (gl R p).length ≤ R 4 := by
  unfold gl
  exact Nat.le_trans (List.length_filter_le ..) (by simp)
theorem gl_lt (R : Nat → Nat) (p : Nat) {j : Nat} (hj : j < (gl R p).length) : (gl R p).getD j 0 < R 4 ∧ R (50 + 3 * (gl R p).getD j 0) = p := by
  have h : (gl R p)[j] ∈ gl R p := List.getElem_mem hj
  rw [List.getD_eq_getElem?_getD, List.getElem?_eq_getElem hj]
  unfold gl at h ⊢
  simp only [List.mem_filter, List.mem_range, decide_eq_true_eq] at h
  exact h
theorem XT.pmin (h : XT σ w R) (hw : WF R) {n j : Nat} (hn : n < R 3) (hj : j < (gl R n).length) (k : Int32 → Option α) : lI σ 1 (some (w 1 n + 1)) (nI j) k = k (nI (R (52 + 3 * (gl R n).getD j 0))) := by
  obtain ⟨-, -, -, -, -, -, ⟨h1, h2, h3, h4⟩, h5, -⟩ := h.pp hn
  have := gl_len R n
  have := hw.2.2.2.2.2.1
  rw [lI_ap h1 h2 (by omega) (by omega), (h5 j hj).1]
theorem XT.ppl (h : XT σ w R) (hw : WF R) {n j : Nat} (hn : n < R 3) (hj : j < (gl R n).length) (k : Int32 → Option α) : lI σ 1 (some (w 1 n + 2)) (nI j) k = k (nI (R (51 + 3 * (gl R n).getD j 0))) := by
  obtain ⟨-, -, -, -, -, -, ⟨h1, h2, h3, h4⟩, h5, -⟩ := h.pp hn
  have := gl_len R n
  have := hw.2.2.2.2.2.1
  rw [lI_ap h3 h4 (by omega) (by omega), (h5 j hj).2]
theorem XT.q71 (h : XT σ w R) {n : Nat} (hn : n < R 5) (k : Int32 → Option α) : gI σ 71 (some (w 2 n)) k = k (nI (R (80 + 5 * n))) := by rw [g71_20 (h.qq hn).1, (h.qq hn).2.1]
theorem XT.q72 (h : XT σ w R) {n : Nat} (hn : n < R 5) (k : Int32 → Option α) : gI σ 72 (some (w 2 n)) k = k (nI (R (81 + 5 * n))) := by rw [g72_20 (h.qq hn).1, (h.qq hn).2.2.1]
theorem XT.q73 (h : XT σ w R) {n : Nat} (hn : n < R 5) (k : Int32 → Option α) : gI σ 73 (some (w 2 n)) k = k (nI (R (82 + 5 * n))) := by rw [g73_20 (h.qq hn).1, (h.qq hn).2.2.2.1]
theorem XT.q74 (h : XT σ w R) {n : Nat} (hn : n < R 5) (k : Int32 → Option α) : gI σ 74 (some (w 2 n)) k = k (nI (R (83 + 5 * n))) := by rw [g74_20 (h.qq hn).1, (h.qq hn).2.2.2.2.1]
theorem XT.q75 (h : XT σ w R) {n : Nat} (hn : n < R 5) (k : Int32 → Option α) : gI σ 75 (some (w 2 n)) k = k (nI (R (84 + 5 * n))) := by rw [g75_20 (h.qq hn).1, (h.qq hn).2.2.2.2.2.1]
theorem XT.q76 (h : XT σ w R) {n : Nat} (hn : n < R 5) (k : Int32 → Option α) : gI σ 76 (some (w 2 n)) k = k (eI (R (103 + n))) := by rw [g76_20 (h.qq hn).1, (h.qq hn).2.2.2.2.2.2]
end
/-- a scene's shape; what it says: sent and 1, bricked, spent -/
def SH (σ : St) (s t : Nat) : Prop := σ.ob s = 21 ∧ σ.lo ≤ s ∧ σ.fr 1035 s = some t ∧ σ.fr 1036 s = some (s + 1) ∧ σ.ob (s + 1) = 2 ∧ σ.ln (s + 1) = 6
def SC (σ : St) (s : Nat) (S : Nat → Nat) : Prop := (∀ p, p < 6 → σ.ai (s + 1) p = oI (S p)) ∧ σ.fi 77 s = nI (S 6) ∧ σ.fi 78 s = nI (S 7)
section
variable {σ : St} {s t : Nat} {S : Nat → Nat} {α : Type}
theorem SH.r1035 (h : SH σ s t) (k : Option Nat → Option α) : gR σ 1035 (some s) k = k (some t) := by rw [g1035_21 h.1, h.2.2.1]
theorem SH.r1036 (h : SH σ s t) (k : Option Nat → Option α) : gR σ 1036 (some s) k = k (some (s + 1)) := by rw [g1036_21 h.1, h.2.2.2.1]
theorem SH.i21 (h : SH σ s t) (k : Nat → Option α) : iv σ 21 (some s) k = k s := iv_ob h.1 k
theorem SH.k21 (h : SH σ s t) (k : Option α) : kd σ s 21 k = k := kd_ob h.1 k
theorem SH.l (h : SH σ s t) (hc : SC σ s S) {n : Nat} (hn : n < 6) (k : Int32 → Option α) : lI σ 2 (some (s + 1)) (nI n) k = k (oI (S n)) := by
  rw [lI_ap h.2.2.2.2.1 h.2.2.2.2.2 hn (by decide), hc.1 n hn]
theorem SH.g77 (h : SH σ s t) (hc : SC σ s S) (k : Int32 → Option α) : gI σ 77 (some s) k = k (nI (S 6)) := by rw [g77_21 h.1, hc.2.1]
theorem SH.g78 (h : SH σ s t) (hc : SC σ s S) (k : Int32 → Option α) : gI σ 78 (some s) k = k (nI (S 7)) := by rw [g78_21 h.1, hc.2.2]
theorem SH.t1 (h : SH σ s t) {n : Nat} (hn : n < 6) (x : Int32) (k : St → Option α) : tB σ (some (s + 1)) (nI n) x k = k (σ.aI (s + 1) (upA (σ.ai (s + 1)) n x.toInt8.toInt32)) :=
  tB_ap h.2.2.2.2.1 (by have := h.2.1; omega) h.2.2.2.2.2 hn (by decide) x k
theorem SH.p77 (h : SH σ s t) (v : Int32) (k : St → Option α) : pI σ 77 (some s) v k = k (σ.sI 77 s v) := p77_21 h.1 h.2.1 v k
theorem SH.p78 (h : SH σ s t) (v : Int32) (k : St → Option α) : pI σ 78 (some s) v k = k (σ.sI 78 s v) := p78_21 h.1 h.2.1 v k
end
