/-! THE MODEL: runs told -/
set_option maxRecDepth 100000
/-- a quarrel's run where it was told, no boys -/
def toldS (R tr wt ey : Nat → Nat) (q : Nat) : RO := runS (freshS R tr q (R (82 + 5 * q))) (eyesS R ey) (wt (R (80 + 5 * q)) - wt (R (81 + 5 * q))) (R (84 + 5 * q)) none (R 0) (R (83 + 5 * q)) (60 - R (83 + 5 * q)) (R (83 + 5 * q)) 0 0 0 0 0
theorem M_runTold {σ : St} {mo : Nat} (h : MS σ mo) {R tr wt ey : Nat → Nat} (hr : AR σ mo 3 241 R) (ht : AR σ mo 8 8 tr) (hT : TR σ mo R wt ey) (hw : WF R) (hb : TB tr) (hwt : ∀ m, m < R 3 → wt m ≤ 9) (hey : ∀ i, ey i ≤ 2) {q : Nat} (hq : q < R 5) : ∃ τ, sX2_runTold σ mo (nI q) = some τ ∧ Mf c6 σ τ ∧ RF τ mo none (toldS R tr wt ey q) := by
  have hR : ∀ i, i < 241 → σ.ai (mo + 3) i = nI (R i) := hr
  have hw0 := hw
  obtain ⟨w0, w1, w2, w3, w4, w5, w6, w7, w8, w9, w10, w11, w12, w13⟩ := hw
  obtain ⟨u1, u2, u3, u4, u5, u6, u7⟩ := w11 q hq
  obtain ⟨τ, e, q1, q2⟩ := M_run h hr ht hT hw0 hb hwt hey (p := R (82 + 5 * q)) (fr := R (83 + 5 * q)) (dr := 0) hq (by omega) (by omega) none trivial
  refine ⟨τ, ?_, q1, q2⟩
  have e' : sX2_run σ mo (nI q) (nI (R (82 + 5 * q))) (nI (R (83 + 5 * q))) (nI 0) = some τ := e
  unfold sX2_runTold
  simp (disch := omega) only [lit_nI, M_r1011 h, M_l3 h, hR, pk_mul, nI_add, show 80 + 5 * q + 2 = 82 + 5 * q by omega, show 80 + 5 * q + 3 = 83 + 5 * q by omega, M_kd h, e', bp_s]
