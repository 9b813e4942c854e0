/-! LISTS: remove, clear; a scene copied -/
set_option maxRecDepth 100000
section
variable {σ τ υ : St} {E E' : Nat → Prop} {α : Type}
theorem L_remove {l n i : Nat} {f : Nat → Nat} (hL : LQ σ l n f) (hg : GW σ) (hE : ∀ i, i < n → 5 ≤ σ.ob (f i) ∧ σ.ob (f i) < 22) (hi : i < n) (hn : n ≤ 16) : ∃ τ, sJ2_remove σ l (nI i) = some (τ, some (f i)) ∧ FE (EL σ l) σ τ ∧ GW τ ∧ LQ τ l (n - 1) (fun j => if j < i then f j else f (j + 1)) ∧ τ.nn = σ.nn ∧ τ.ob = σ.ob ∧ τ.ln = σ.ln ∧ τ.fr = σ.fr := by
  obtain ⟨h1, h2, d, h3, h4, h5, h6⟩ := id hL
  obtain ⟨hlo, d', e', -, hown⟩ := hg.2 l h1
  rw [h3] at e'
  cases e'
  have hdlo : σ.lo ≤ d := by
    rcases hown with q | q
    · omega
    · exact q.1
  have hln : σ.ln d ≤ 22 := by
    rcases hown with q | ⟨-, q | q | q, -⟩ <;> omega
  have hEd : EL σ l d := Or.inr ⟨h3, by omega⟩
  have hn1 : nI n - 1 = nI (n - 1) := pk_sub (b := 1) (by omega)
  unfold sJ2_remove sJ12_checkIndex sJ11_checkIndex
  rw [g18_6 h1, h2, if_neg (nI_pos (by omega)), if_pos (nI_lt hi (by omega)), bp_s, bp_s, g1008_6 h1, h3, lR_ap h4 (by omega) (by omega), h6 i hi, kd_ob h1]
  unfold sJ2_fastRemove
  have e18 : (σ.sI 17 l (σ.fi 17 l + 1)).fi 18 l = nI n := (fi_ne (by decide)).trans h2
  rw [g17_6 h1, p17_6 h1 hlo, g18_6 (σ := σ.sI 17 l _) h1, e18, hn1]
  by_cases hlast : n - 1 ≤ i
  · rw [if_pos (nI_le hlast (by omega)), bp_s, p18_6 (σ := σ.sI 17 l _) h1 hlo, tR_no (σ := (σ.sI 17 l _).sI 18 l _) h4 hdlo (by show n - 1 < σ.ln d; omega) (by omega), bp_s]
    refine ⟨_, rfl, (((FE.rf σ).sI (Or.inl rfl)).sI (Or.inl rfl)).aR (Or.inl hEd), hg, ⟨h1, fi_eq, d, h3, h4, by show n - 1 ≤ σ.ln d; omega, fun j hj => ?_⟩, rfl, rfl, rfl, rfl⟩
    rw [ar_aR, up1_eq, upA_ap, if_neg (by omega)]
    show σ.ar d j = some (if j < i then f j else f (j + 1))
    rw [if_pos (by omega)]
    exact h6 j (by omega)
  · have hlt : i < n - 1 := by omega
    rw [if_neg (nI_ge hlt (by omega)), nI_1, pk_sub (by omega), cpR_ap (σ := σ.sI 17 l _) h4 h4 (by show i + 1 + (n - 1 - i) ≤ σ.ln d; omega) (by show i + (n - 1 - i) ≤ σ.ln d; omega) hdlo (by omega) (by omega) (by omega) (fun k hk => by
      show okR σ (σ.ar d (i + 1 + k)) = true
      rw [h6 _ (by omega)]
      exact okR_s (hE _ (by omega)).1 (hE _ (by omega)).2), bp_s, p18_6 (σ := (σ.sI 17 l _).aR d _) h1 hlo, tR_no (σ := ((σ.sI 17 l _).aR d _).sI 18 l _) h4 hdlo (by show n - 1 < σ.ln d; omega) (by omega), bp_s]
    refine ⟨_, rfl, ((((FE.rf σ).sI (Or.inl rfl)).aR (Or.inl hEd)).sI (Or.inl rfl)).aR (Or.inl hEd), hg, ⟨h1, fi_eq, d, h3, h4, by show n - 1 ≤ σ.ln d; omega, fun j hj => ?_⟩, rfl, rfl, rfl, rfl⟩
    rw [ar_aR, up1_eq, upA_ap, if_neg (by omega), ar_sI, ar_aR, up1_eq]
    unfold cpF
    by_cases hji : j < i
    · rw [if_neg (by omega)]
      show σ.ar d j = some (if j < i then f j else f (j + 1))
      rw [if_pos hji]
      exact h6 j (by omega)
    · rw [if_pos (by omega), show i + 1 + (j - i) = j + 1 by omega]
      show σ.ar d (j + 1) = some (if j < i then f j else f (j + 1))
      rw [if_neg hji]
      exact h6 (j + 1) (by omega)
theorem aR_self (σ : St) (a : Nat) : σ.aR a (σ.ar a) = σ := by
  have e : up1 σ.ar a (σ.ar a) = σ.ar := by
    funext b
    rw [up1_ap]
    split
    · next h => rw [h]
    · rfl
  unfold St.aR
  rw [e]
  rfl
theorem aR_aR (σ : St) (a : Nat) (g k : Nat → Option Nat) : (σ.aR a g).aR a k = σ.aR a k := by
  unfold St.aR
  congr 1
  funext b
  show up1 (up1 σ.ar a g) a k b = _
  simp only [up1_ap]
  split <;> rfl
theorem L_clear {l n : Nat} {f : Nat → Nat} (hL : LQ σ l n f) (hg : GW σ) (hn : n ≤ 16) : ∃ τ, sJ2_clear σ l = some τ ∧ FE (EL σ l) σ τ ∧ GW τ ∧ LQ τ l 0 f ∧ τ.nn = σ.nn ∧ τ.ob = σ.ob ∧ τ.ln = σ.ln ∧ τ.fr = σ.fr := by
  obtain ⟨h1, h2, d, h3, h4, h5, h6⟩ := id hL
  obtain ⟨hlo, d', e', -, hown⟩ := hg.2 l h1
  rw [h3] at e'
  cases e'
  have e18 : (σ.sI 17 l (σ.fi 17 l + 1)).fi 18 l = nI n := (fi_ne (by decide)).trans h2
  unfold sJ2_clear
  rw [g17_6 h1, p17_6 h1 hlo, g1008_6 (σ := σ.sI 17 l _) h1, show (σ.sI 17 l (σ.fi 17 l + 1)).fr 1008 l = some d from h3, g18_6 (σ := σ.sI 17 l _) h1, e18, p18_6 (σ := σ.sI 17 l _) h1 hlo]
  generalize hs5 : (σ.sI 17 l (σ.fi 17 l + 1)).sI 18 l 0 = s5
  have f5 : FE (EL σ l) σ s5 := by rw [← hs5]; exact ((FE.rf σ).sI (Or.inl rfl)).sI (Or.inl rfl)
  have q5 : s5.ob = σ.ob ∧ s5.ln = σ.ln ∧ s5.lo = σ.lo ∧ s5.fr = σ.fr ∧ s5.nn = σ.nn ∧ s5.fi 18 l = nI 0 := by rw [← hs5]; exact ⟨rfl, rfl, rfl, rfl, rfl, fi_eq⟩
  obtain ⟨q1, q2, q3, q4, q6, q7⟩ := q5
  have g5 : GW s5 := hg.eq q6 q1 q2 q4
  by_cases h0 : n = 0
  · subst h0
    have e : sJ2_clear_L27 (some d) (nI 0) FU s5 0 = some s5 := by
      have : ∀ m, sJ2_clear_L27 (some d) (nI 0) (m + 1) s5 0 = some s5 := fun m => by rw [sJ2_clear_L27, if_pos (by decide)]
      exact this 99999
    rw [e, bp_s]
    exact ⟨s5, rfl, f5, g5, ⟨by rw [q1]; exact h1, q7, d, by rw [q4]; exact h3, by rw [q1]; exact h4, Nat.zero_le _, fun i hi => by omega⟩, q6, q1, q2, q4⟩
  · have hdlo : σ.lo ≤ d := by
      rcases hown with q | q
      · omega
      · exact q.1
    obtain ⟨b, e, g, rfl⟩ := Wp_loop (fun m (b : St) k => sJ2_clear_L27 (some d) (nI n) m b (nI k)) n (fun k b => ∃ g, b = s5.aR d g) (Q := fun b => ∃ g, b = s5.aR d g) (by omega) (fun m k b hk hi hs => by
      obtain ⟨g, rfl⟩ := hi
      rw [sJ2_clear_L27]
      by_cases hkk : k = n
      · rw [if_pos (nI_le (by omega) (by omega))]
        exact ⟨_, rfl, g, rfl⟩
      · rw [if_neg (nI_ge (by omega) (by omega)), tR_no (σ := s5.aR d g) (by show s5.ob d = 4; rw [q1]; exact h4) (by show s5.lo ≤ d; rw [q3]; exact hdlo) (by show k < s5.ln d; rw [q2]; omega) (by omega), nI_1, aR_aR]
        exact hs (by omega) _ ⟨_, rfl⟩) 0 (Nat.zero_le _) s5 ⟨s5.ar d, (aR_self ..).symm⟩
    have e' : sJ2_clear_L27 (some d) (nI n) FU s5 0 = some (s5.aR d g) := e
    rw [e', bp_s]
    exact ⟨_, rfl, f5.aR (Or.inl (Or.inr ⟨h3, by omega⟩)), g5, ⟨by show s5.ob l = 6; rw [q1]; exact h1, q7, d, by show s5.fr 1008 l = _; rw [q4]; exact h3, by show s5.ob d = 4; rw [q1]; exact h4, Nat.zero_le _, fun i hi => by omega⟩, q6, q1, q2, q4⟩
theorem X_takesE {s d t t' : Nat} {S : Nat → Nat} (hs : SH σ s t) (hd : SH σ d t') (hc : SC σ s S) : sX14_takes σ d (some s) = some (((σ.aI (d + 1) (cpF (σ.ai (s + 1)) (σ.ai (d + 1)) 0 0 6)).sI 77 d (nI (S 6))).sI 78 d (nI (S 7))) := by
  have e77 : (σ.aI (d + 1) (cpF (σ.ai (s + 1)) (σ.ai (d + 1)) 0 0 6)).fi 77 s = nI (S 6) := hc.2.1
  have e78 : ((σ.aI (d + 1) (cpF (σ.ai (s + 1)) (σ.ai (d + 1)) 0 0 6)).sI 77 d (nI (S 6))).fi 78 s = nI (S 7) := (fi_ne (by decide)).trans hc.2.2
  unfold sX14_takes
  rw [hs.r1036, hd.r1036, show (0 : Int32) = nI 0 from rfl, show (6 : Int32) = nI 6 from rfl, cpI_ap hs.2.2.2.2.1 hd.2.2.2.2.1 (by rw [hs.2.2.2.2.2]; decide) (by rw [hd.2.2.2.2.2]; decide) (by have := hd.2.1; omega) (by decide) (by decide) (by decide), g77_21 (σ := σ.aI (d + 1) _) hs.1, e77, p77_21 (σ := σ.aI (d + 1) _) hd.1 hd.2.1, g78_21 (σ := (σ.aI (d + 1) _).sI 77 d _) hs.1, e78, p78_21 (σ := (σ.aI (d + 1) _).sI 77 d _) hd.1 hd.2.1]
theorem up1_self {α : Type} (h : Nat → α) (a : Nat) (v : α) : up1 h a v a = v := if_pos rfl
theorem X_copy {s t : Nat} {S : Nat → Nat} (hs : SH σ s t) (hc : SC σ s S) (hg : GW σ) (hr1 : 2 ≤ σ.rc) (hr2 : 10 ≤ σ.rs) (hlo : σ.lo ≤ σ.sz) : ∃ τ, sX14_copy σ s = some (τ, some σ.sz) ∧ FE (fun _ => False) σ τ ∧ GW τ ∧ SH τ σ.sz t ∧ SC τ σ.sz S ∧ σ.rc ≤ τ.rc + 2 ∧ σ.rs ≤ τ.rs + 10 := by
  have hss : s < σ.sz := hg.1 s (by rw [hs.1]; decide)
  have hss1 : s + 1 < σ.sz := hg.1 (s + 1) (by rw [hs.2.2.2.2.1]; decide)
  have f1 : FE (fun _ => False) σ (σ.nO 21 4) := (FE.rf σ).nO (by omega)
  have g1 : GW (σ.nO 21 4) := hg.nO (by decide)
  have f2 : FE (fun _ => False) σ ((σ.nO 21 4).nA 2 6) := f1.nA (by show 1 ≤ σ.rc - 1; omega)
  have g2 : GW ((σ.nO 21 4).nA 2 6) := g1.nA (by decide)
  have z1 : (σ.nO 21 4).sz = σ.sz + 1 := rfl
  have f3 : FE (fun _ => False) σ ((((σ.nO 21 4).nA 2 6).sR 1036 σ.sz (some (σ.sz + 1))).sR 1035 σ.sz (some t)) := (f2.sRn (Nat.le_refl _)).sRn (Nat.le_refl _)
  have g3 : GW ((((σ.nO 21 4).nA 2 6).sR 1036 σ.sz (some (σ.sz + 1))).sR 1035 σ.sz (some t)) := (g2.sR (by decide)).sR (by decide)
  have oS : ((σ.nO 21 4).nA 2 6).ob σ.sz = 21 := by
    show up1 (up1 σ.ob σ.sz 21) (σ.sz + 1) 2 σ.sz = 21
    rw [up1_ne (by omega), up1_self]
  generalize hs3 : (((σ.nO 21 4).nA 2 6).sR 1036 σ.sz (some (σ.sz + 1))).sR 1035 σ.sz (some t) = s3 at f3 g3
  have o3 : s3.ob = ((σ.nO 21 4).nA 2 6).ob := by rw [← hs3]; rfl
  have ag : ∀ a, a < σ.sz → Ag σ s3 a := fun a ha => f3.2.2.2.2.2 a ha (fun q => q)
  have hs3' : SH s3 s t := ⟨by rw [(ag s hss).1]; exact hs.1, by rw [f3.1]; exact hs.2.1, ((ag s hss).2.2.2.1 1035).trans hs.2.2.1, ((ag s hss).2.2.2.1 1036).trans hs.2.2.2.1, by rw [(ag _ hss1).1]; exact hs.2.2.2.2.1, by rw [(ag _ hss1).2.1]; exact hs.2.2.2.2.2⟩
  have hc3 : SC s3 s S := ⟨fun p hp => by rw [(ag _ hss1).2.2.2.2.1]; exact hc.1 p hp, ((ag s hss).2.2.1 77).trans hc.2.1, ((ag s hss).2.2.1 78).trans hc.2.2⟩
  have hd3 : SH s3 σ.sz t := ⟨by rw [o3]; exact oS, by rw [f3.1]; exact hlo, by rw [← hs3]; exact if_pos ⟨rfl, rfl⟩, by rw [← hs3, fr_sR, up2_ap, if_neg (by omega)]; exact if_pos ⟨rfl, rfl⟩, by rw [o3]; exact up1_self _ _ _, by rw [← hs3]; exact up1_self _ _ _⟩
  refine ⟨_, ?_, (((f3.aI (a := σ.sz + 1) (g := cpF (s3.ai (s + 1)) (s3.ai (σ.sz + 1)) 0 0 6) (Or.inr (Nat.le_succ _))).sIn (F := 77) (v := nI (S 6)) (Nat.le_refl σ.sz)).sIn (F := 78) (v := nI (S 7)) (Nat.le_refl σ.sz)), g3, hd3, ⟨fun p hp => ?_, (fi_ne (by decide)).trans fi_eq, fi_eq⟩, ?_, ?_⟩
  · unfold sX14_copy sX14_init
    rw [nwO_ap (by omega) (by omega), g1035_21 (σ := σ.nO 21 4) (by show up1 σ.ob σ.sz 21 s = 21; rw [up1_ne (by omega)]; exact hs.1), show (σ.nO 21 4).fr 1035 s = some t by show (if s = σ.sz then none else σ.fr 1035 s) = _; rw [if_neg (by omega)]; exact hs.2.2.1, show (6 : Int32) = nI 6 from rfl, nwA_ap (by show 1 ≤ σ.rc - 1; omega) (by show 6 ≤ σ.rs - 4; omega) (by decide), p1036_21 oS (by show σ.lo ≤ σ.sz; exact hlo), p1035_21 (σ := ((σ.nO 21 4).nA 2 6).sR 1036 σ.sz _) oS (by show σ.lo ≤ σ.sz; exact hlo), z1, hs3, bp_s, kd_ob hd3.1, X_takesE hs3' hd3 hc3, bp_s]
  · rw [ai_sI, ai_sI, ai_aI, up1_eq]
    unfold cpF
    rw [if_pos (by omega), show 0 + (p - 0) = p by omega]
    exact hc3.1 p hp
  · show σ.rc ≤ s3.rc + 2
    have : s3.rc = σ.rc - 1 - 1 := by rw [← hs3]; rfl
    omega
  · show σ.rs ≤ s3.rs + 10
    have : s3.rs = σ.rs - 4 - 6 := by rw [← hs3]; rfl
    omega
end
