/-! FEED -/
set_option maxRecDepth 100000
section
variable {x mo : Nat} {sx sm : St}
theorem by_bits (v : BitVec 32) (k : Nat) (hk : k ≤ 24) : BitVec.setWidth 8 (v >>> k) = BitVec.setWidth 8 ((v.sshiftRight k) &&& 255#32) := by
  apply BitVec.eq_of_getLsbD_eq
  intro i hi
  have h255 : (255#32).getLsbD i = true := by
    match i, hi with
    | 0, _ => rfl
    | 1, _ => rfl
    | 2, _ => rfl
    | 3, _ => rfl
    | 4, _ => rfl
    | 5, _ => rfl
    | 6, _ => rfl
    | 7, _ => rfl
  have e1 : ¬ (32 ≤ i) := by omega
  have e2 : k + i < 32 := by omega
  rw [BitVec.getLsbD_setWidth, BitVec.getLsbD_setWidth, BitVec.getLsbD_and, h255, BitVec.getLsbD_sshiftRight, BitVec.getLsbD_ushiftRight, if_pos e2]
  simp [e1]
theorem by_b2 (v s : Int32) (k : Nat) (hk : k ≤ 24) (h1 : ((s.toUInt32 &&& Int32.toUInt32 31).toBitVec % 32).toNat = k) (h2 : ((s &&& 31).toBitVec.smod 32).toNat = k) : ((v.toUInt32 >>> (s.toUInt32 &&& Int32.toUInt32 31)).toInt32).toInt8.toBitVec = ((v >>> (s &&& 31)) &&& 255).toInt8.toBitVec := by
  have e1 : ((v.toUInt32 >>> (s.toUInt32 &&& Int32.toUInt32 31)).toInt32).toBitVec = v.toBitVec >>> k := by
    apply BitVec.eq_of_toNat_eq
    rw [pk_ushr v s k h1, BitVec.toNat_ushiftRight, Nat.shiftRight_eq_div_pow]
  have e2 : (v >>> (s &&& 31)).toBitVec = v.toBitVec.sshiftRight k := by
    show v.toBitVec.sshiftRight ((s &&& 31).toBitVec.smod 32).toNat = _
    rw [h2]
  show BitVec.signExtend 8 ((v.toUInt32 >>> (s.toUInt32 &&& Int32.toUInt32 31)).toInt32).toBitVec = BitVec.signExtend 8 ((v >>> (s &&& 31)).toBitVec &&& 255#32)
  rw [e1, e2, BitVec.signExtend_eq_setWidth_of_le _ (by decide), BitVec.signExtend_eq_setWidth_of_le _ (by decide)]
  exact by_bits _ k hk
theorem by_lem (v : Int32) {s : Int32} (h : s = 0 ∨ s = 8 ∨ s = 16 ∨ s = 24) : ∃ c, c < 256 ∧ ((v.toUInt32 >>> (s.toUInt32 &&& Int32.toUInt32 31)).toInt32).toInt8 = (nI c).toInt8 ∧ (v >>> (s &&& 31)) &&& 255 = nI c := by
  have h2 : (v >>> (s &&& 31)) &&& 255 = nI ((v >>> (s &&& 31)).toBitVec.toNat % 2 ^ 8) := pk_and _ 8 rfl
  refine ⟨(v >>> (s &&& 31)).toBitVec.toNat % 2 ^ 8, Nat.mod_lt _ (by decide), ?_, h2⟩
  rw [← h2]
  apply Int8.toBitVec_inj.1
  rcases h with rfl | rfl | rfl | rfl
  · exact by_b2 v 0 0 (by decide) rfl rfl
  · exact by_b2 v 8 8 (by decide) rfl rfl
  · exact by_b2 v 16 16 (by decide) rfl rfl
  · exact by_b2 v 24 24 (by decide) rfl rfl
theorem fd_s : ∀ k, k < 20 → (24 - (8 * (nI k - nI k / 4 * 4)) = (0 : Int32) ∨ 24 - (8 * (nI k - nI k / 4 * 4)) = (8 : Int32) ∨ 24 - (8 * (nI k - nI k / 4 * 4)) = (16 : Int32) ∨ 24 - (8 * (nI k - nI k / 4 * 4)) = (24 : Int32)) := by decide
theorem LQ.ip {τ : St} {l n : Nat} {f : Nat → Nat} (h : LQ sx l n f) (h1 : τ.ob = sx.ob) (h2 : τ.ln = sx.ln) (h3 : τ.fr = sx.fr) (h4 : τ.ar = sx.ar) (h5 : ∀ F a, F ≠ 0 → τ.fi F a = sx.fi F a) : LQ τ l n f := by
  unfold LQ at h ⊢
  rw [h1, h2, h3, h4, h5 18 l (by decide)]
  exact h
theorem SH.ip {τ : St} {s t : Nat} (h : SH sx s t) (h0 : τ.nn = sx.nn) (h1 : τ.ob = sx.ob) (h2 : τ.ln = sx.ln) (h3 : τ.fr = sx.fr) : SH τ s t := by
  unfold SH at h ⊢
  rw [h1, h2, h3, show τ.lo = sx.lo by simp only [St.lo, h0]]
  exact h
theorem XO.ip {τ : St} (h : XO sx x) (h0 : τ.nn = sx.nn) (h1 : τ.ob = sx.ob) (h2 : τ.ln = sx.ln) (h3 : τ.fr = sx.fr) : XO τ x := by
  unfold XO at h ⊢
  rw [h1, h2, h3, show τ.lo = sx.lo by simp only [St.lo, h0]]
  exact h
theorem SC.ip {τ : St} {s t : Nat} {S : Nat → Nat} (h : SC sx s S) (hs : SH sx s t) (hx : sx.ob x = 5) (h5 : ∀ F a, F ≠ 0 → τ.fi F a = sx.fi F a) (h6 : ∀ a, a ≠ x + 1 → τ.ai a = sx.ai a) : SC τ s S := by
  have hne : s ≠ x := fun e => by have := hs.1; rw [e, hx] at this; exact absurd this (by decide)
  refine ⟨fun p hp => ?_, (h5 77 s (by decide)).trans h.2.1, (h5 78 s (by decide)).trans h.2.2⟩
  rw [h6 (s + 1) (by omega)]
  exact h.1 p hp
theorem XT.ip {τ : St} {w : Nat → Nat → Nat} {R : Nat → Nat} (h : XT sx w R) (hw : WF R) (h2x : sx.ob (x + 1) = 2) (h1 : τ.ob = sx.ob) (h2 : τ.ln = sx.ln) (h3 : τ.fr = sx.fr) (h4 : τ.ar = sx.ar) (h5 : ∀ F a, F ≠ 0 → τ.fi F a = sx.fi F a) (h6 : ∀ a, a ≠ x + 1 → τ.ai a = sx.ai a) : XT τ w R := by
  obtain ⟨t1, t2, t3, ⟨⟨f1, l1⟩, l2, l3, l4⟩, t5, t6, t7, t8⟩ := h
  have ai : ∀ a, sx.ob a = 1 → τ.ai a = sx.ai a := fun a ha => h6 a (fun e => by rw [e, h2x] at ha; exact absurd ha (by decide))
  refine ⟨by rw [h1]; exact t1, ?_, by rw [h3]; exact t3, ⟨⟨f1, l1.ip h1 h2 h3 h4 h5⟩, l2.ip h1 h2 h3 h4 h5, l3.ip h1 h2 h3 h4 h5, l4.ip h1 h2 h3 h4 h5⟩, by rw [h1, h2, ai _ t5.1]; exact t5, fun k hk => ?_, fun p hp => ?_, fun q hq => ?_⟩
  · rw [h5 49 _ (by decide), h5 50 _ (by decide), h5 51 _ (by decide), h5 52 _ (by decide), h5 53 _ (by decide)]
    exact t2
  · rw [h1, h5 63 _ (by decide), h5 64 _ (by decide)]; exact t6 k hk
  · have h := t7 p hp
    obtain ⟨o0, -, -, -, -, -, ⟨o1, -, o2, -⟩, -⟩ := id h
    unfold XP at h ⊢
    rw [h1, h2, h3, h5 65 _ (by decide), h5 66 _ (by decide), h5 67 _ (by decide), h5 68 _ (by decide), h5 69 _ (by decide), ai _ o1, ai _ o2]
    exact h
  · have h := t8 q hq
    unfold XR at h ⊢
    rw [h1, h5 71 _ (by decide), h5 72 _ (by decide), h5 73 _ (by decide), h5 74 _ (by decide), h5 75 _ (by decide), h5 76 _ (by decide)]
    exact h
theorem KS.ip {τ : St} (hk : KS sx) (hx : sx.lo ≤ x) (h0 : τ.nn = sx.nn) (h1 : τ.ob = sx.ob) (h2 : τ.ln = sx.ln) (h3 : τ.fr = sx.fr) (h5 : ∀ F a, F ≠ 0 → F ≠ 19 → F ≠ 20 → τ.fi F a = sx.fi F a) (h6 : ∀ a, a ≠ x + 1 → τ.ai a = sx.ai a) : KS τ := by
  obtain ⟨k1, c, k2, k3, k4, k5⟩ := hk
  have e1 : τ.lo = sx.lo := by simp only [St.lo, h0]
  have e2 : τ.ks = sx.ks := by simp only [St.ks, h0]
  refine ⟨fun i hi => ?_, c, by rw [e2]; exact k2, by rw [e1]; exact k3, by rw [h1]; exact k4, by rw [h2]; exact k5⟩
  obtain ⟨a, a1, a2, a3, a4, a5, b, a6, a7, a8, a9, a10⟩ := k1 i hi
  refine ⟨a, by rw [e2]; exact a1, by rw [e1]; exact a2, by rw [h1]; exact a3, (h5 60 a (by decide) (by decide) (by decide)).trans a4, fun hi0 => ⟨(h5 61 a (by decide) (by decide) (by decide)).trans (a5 hi0).1, (h5 62 a (by decide) (by decide) (by decide)).trans (a5 hi0).2⟩, b, by rw [h3]; exact a6, by rw [e1]; exact a7, by rw [h1]; exact a8, by rw [h2]; exact a9, fun j hj => ?_⟩
  rw [h6 b (by omega)]
  exact a10 j hj
theorem HI.ip {s1 s2 : St} {l t tr b F m : Nat} (h : HI sx sm l t tr b F mo m) (hx : sx.ob x = 5) (h0 : s1.nn = sx.nn) (h1 : s1.ob = sx.ob) (h2 : s1.ln = sx.ln) (h3 : s1.fr = sx.fr) (h4 : s1.ar = sx.ar) (h5 : ∀ F a, F ≠ 0 → s1.fi F a = sx.fi F a) (h6 : ∀ a, a ≠ x + 1 → s1.ai a = sx.ai a) (hF : s2.fi F mo = sm.fi F mo) (hb : s2.ai (mo + b) = sm.ai (mo + b)) : HI s1 s2 l t tr b F mo m := by
  obtain ⟨n, f, P, k1, k2, k3, k4⟩ := h
  refine ⟨n, f, P, k1, k2.ip h1 h2 h3 h4 h5, hF.trans k3, fun i hi => ?_⟩
  obtain ⟨a1, a2, a3, a4, a5⟩ := k4 i hi
  exact ⟨a1.ip h0 h1 h2 h3, a2, a3.ip a1 hx h5 h6, a4, by rw [hb]; exact a5⟩
/-- only the tape has changed -/
theorem RL.tape {s1 s2 : St} (h : RL x mo sx sm) (h0 : s1.nn = sx.nn) (h1 : s1.ob = sx.ob) (h2 : s1.ln = sx.ln) (h3 : s1.fr = sx.fr) (h4 : s1.ar = sx.ar) (h5 : ∀ F a, F ≠ 0 → s1.fi F a = sx.fi F a) (h6 : ∀ a, a ≠ x + 1 → s1.ai a = sx.ai a)
    (m0 : s2.nn = sm.nn) (m1 : s2.ob = sm.ob) (m2 : s2.ln = sm.ln) (m3 : s2.fr = sm.fr) (m5 : ∀ F a, F ≠ 19 → F ≠ 20 → s2.fi F a = sm.fi F a) (m6 : ∀ a, a ≠ mo + 1 → s2.ai a = sm.ai a)
    (hn : ∃ n, n ≤ 900 ∧ s1.fi 0 x = nI n ∧ s2.fi 20 mo = nI n) (ht : ∀ i, i < 900 → ∃ c, c < 256 ∧ s1.ai (x + 1) i = (nI c).toInt8.toInt32 ∧ s2.ai (mo + 1) i = nI c) : RL x mo s1 s2 := by
  obtain ⟨⟨b1, b2, -, b6, -, b8, b9, b10⟩, ⟨r1, r2, r3⟩, hT⟩ := h
  have hms : MS s2 mo := by
    unfold MS at b2 ⊢
    rw [m1, m2, m3, show s2.lo = sm.lo by simp only [St.lo, m0]]
    exact b2
  refine ⟨⟨b1.ip h0 h1 h2 h3, hms, hn, by rw [h5 1 x (by decide), m5 27 mo (by decide) (by decide)]; exact b6, ht, b8.ip b1.2.1 h0 h1 h2 h3 (fun F a e _ _ => h5 F a e) h6, b9.ip b2.2.1 m0 m1 m2 m3 (fun F a _ e f => m5 F a e f) m6, b10.eq h0 h1 h2 h3⟩, ⟨by rw [h5 3 x (by decide), m5 29 mo (by decide) (by decide)]; exact r1, by rw [h5 2 x (by decide), m5 29 mo (by decide) (by decide), m5 28 mo (by decide) (by decide)]; exact r2, ?_⟩, ?_⟩
  · unfold FL at r3 ⊢
    rw [h5 4 x (by decide), h5 5 x (by decide), h5 12 x (by decide)]
    exact r3
  · rcases hT with ⟨a1, a2, ⟨f, a3⟩, ⟨g, a4⟩, a5, a6⟩ | ⟨w, R, S, ⟨⟨q1, q2, q3, q4, q5⟩, ⟨c1, c2, c3, c4⟩, i1, i2⟩⟩
    · exact Or.inl ⟨by rw [h3]; exact a1, (m5 31 mo (by decide) (by decide)).trans a2, ⟨f, a3.ip h1 h2 h3 h4 h5⟩, ⟨g, a4.ip h1 h2 h3 h4 h5⟩, (m5 32 mo (by decide) (by decide)).trans a5, (m5 33 mo (by decide) (by decide)).trans a6⟩
    · refine Or.inr ⟨w, R, S, ⟨⟨q1.1.ip h0 h1 h2 h3, by rw [h3]; exact q1.2.1, by rw [h3]; exact q1.2.2.1, by rw [h3]; exact q1.2.2.2.1, q1.2.2.2.2.1.ip h0 h1 h2 h3, q1.2.2.2.2.2.1.ip h0 h1 h2 h3, q1.2.2.2.2.2.2⟩, q2.ip q4 b1.2.2.2.1.1 h1 h2 h3 h4 h5 h6, q3.ip q1.2.2.2.2.1 b1.1 h5 h6, q4, q5⟩, ⟨hms, ?_, ?_, (m5 31 mo (by decide) (by decide)).trans c4⟩, i1.ip b1.1 h0 h1 h2 h3 h4 h5 h6 (m5 32 mo (by decide) (by decide)) (m6 _ (by omega)), i2.ip b1.1 h0 h1 h2 h3 h4 h5 h6 (m5 33 mo (by decide) (by decide)) (m6 _ (by omega))⟩
      · unfold AR at c2 ⊢
        rw [m6 _ (by omega)]; exact c2
      · unfold AR at c3 ⊢
        rw [m6 _ (by omega)]; exact c3
end
