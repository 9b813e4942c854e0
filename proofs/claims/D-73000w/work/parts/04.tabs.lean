/-! CLASS LIST, FIELD NUMBERS, STRINGS (by gen/tabs.py) -/
set_option maxRecDepth 100000
def clG : List vw_C := [(RX1, TX1, 25), (RJ2, TJ2, 3), (RX2, TX2, 37), (RX3, TX3, 5), (RX4, TX4, 3), (RX5, TX5, 10), (RX6, TX6, 4), (RJ4, TJ4, 4), (RJ5, TJ5, 4), (RX7, TX7, 1), (RX8, TX8, 2), (RX9, TX9, 9), (RX10, TX10, 9), (RX11, TX11, 9), (RX12, TX12, 9), (RX13, TX13, 7), (RX14, TX14, 4), (RJ16, TJ16, 6)]
def fidL : List (List Nat) := [[], [], [], [], [], [1000, 0, 1, 2, 3, 1001, 1002, 1003, 1004, 1005, 4, 5, 6, 7, 8, 9, 10, 11, 12, 13, 14, 15, 1006, 16, 1007], [17, 1008, 18], [19, 1009, 20, 21, 22, 23, 24, 25, 26, 27, 28, 29, 1010, 30, 31, 1011, 1012, 1013, 1014, 1015, 32, 33, 1016, 1017, 1018, 34, 35, 36, 37, 38, 39, 40, 1019, 41, 42, 43, 44], [1020, 1021, 1022, 45, 46], [1023, 47, 48], [49, 50, 51, 52, 53, 1024, 1025, 1026, 1027, 1028], [54, 55, 56, 1029], [1030, 57, 58, 59], [1031, 60, 61, 62], [1032], [63, 64], [1032, 1033, 1034, 65, 66, 67, 68, 69, 70], [1032, 1033, 1034, 65, 66, 67, 68, 69, 70], [1032, 1033, 1034, 65, 66, 67, 68, 69, 70], [1032, 1033, 1034, 65, 66, 67, 68, 69, 70], [1032, 71, 72, 73, 74, 75, 76], [1035, 1036, 77, 78], [1037, 1038, 1039, 1040, 1041, 79]]
def fidT (o : Nat) : List Nat := fidL.getD o []
def hasF (tab : Nat → List Nat) (f c : Nat) : Bool := (tab c).contains f
def tyG : Nat → Nat → FieldType := fun c => match c with
  | 0 => tyX1
  | 1 => tyJ2
  | 2 => tyX2
  | 3 => tyX3
  | 4 => tyX4
  | 5 => tyX5
  | 6 => tyX6
  | 7 => tyJ4
  | 8 => tyJ5
  | 9 => tyX7
  | 10 => tyX8
  | 11 => tyX9
  | 12 => tyX10
  | 13 => tyX11
  | 14 => tyX12
  | 15 => tyX13
  | 16 => tyX14
  | 17 => tyJ16
  | _ => fun _ => .int
theorem clG_in : ∀ (c : Nat) (q : vw_C), clG[c]? = some q → ∀ w ∈ u_ws q.1 q.2.1 q.2.2, w ∈ lw_all := by
  intro c q h
  match c, h with
  | 0, h => cases h; exact in_X1
  | 1, h => cases h; exact in_J2
  | 2, h => cases h; exact in_X2
  | 3, h => cases h; exact in_X3
  | 4, h => cases h; exact in_X4
  | 5, h => cases h; exact in_X5
  | 6, h => cases h; exact in_X6
  | 7, h => cases h; exact in_J4
  | 8, h => cases h; exact in_J5
  | 9, h => cases h; exact in_X7
  | 10, h => cases h; exact in_X8
  | 11, h => cases h; exact in_X9
  | 12, h => cases h; exact in_X10
  | 13, h => cases h; exact in_X11
  | 14, h => cases h; exact in_X12
  | 15, h => cases h; exact in_X13
  | 16, h => cases h; exact in_X14
  | 17, h => cases h; exact in_J16
  | c + 18, h => simp [clG] at h
theorem clG_nm : ∀ (c : Nat) (q : vw_C), clG[c]? = some q → ∀ a, a < q.2.2 → ∀ b, b < q.2.2 → a ≠ b → (q.2.1 a).2.1 ≠ (q.2.1 b).2.1 := by
  intro c q h
  match c, h with
  | 0, h => cases h; exact nmX1
  | 1, h => cases h; exact nmJ2
  | 2, h => cases h; exact nmX2
  | 3, h => cases h; exact nmX3
  | 4, h => cases h; exact nmX4
  | 5, h => cases h; exact nmX5
  | 6, h => cases h; exact nmX6
  | 7, h => cases h; exact nmJ4
  | 8, h => cases h; exact nmJ5
  | 9, h => cases h; exact nmX7
  | 10, h => cases h; exact nmX8
  | 11, h => cases h; exact nmX9
  | 12, h => cases h; exact nmX10
  | 13, h => cases h; exact nmX11
  | 14, h => cases h; exact nmX12
  | 15, h => cases h; exact nmX13
  | 16, h => cases h; exact nmX14
  | 17, h => cases h; exact nmJ16
  | c + 18, h => simp [clG] at h
theorem clG_ty : ∀ (c : Nat) (q : vw_C), clG[c]? = some q → ∀ k, k < q.2.2 → parseFieldDescriptor (q.2.1 k).2.2.1 = some (tyG c k) := by
  intro c q h
  match c, h with
  | 0, h => cases h; exact tyX1_ok
  | 1, h => cases h; exact tyJ2_ok
  | 2, h => cases h; exact tyX2_ok
  | 3, h => cases h; exact tyX3_ok
  | 4, h => cases h; exact tyX4_ok
  | 5, h => cases h; exact tyX5_ok
  | 6, h => cases h; exact tyX6_ok
  | 7, h => cases h; exact tyJ4_ok
  | 8, h => cases h; exact tyJ5_ok
  | 9, h => cases h; exact tyX7_ok
  | 10, h => cases h; exact tyX8_ok
  | 11, h => cases h; exact tyX9_ok
  | 12, h => cases h; exact tyX10_ok
  | 13, h => cases h; exact tyX11_ok
  | 14, h => cases h; exact tyX12_ok
  | 15, h => cases h; exact tyX13_ok
  | 16, h => cases h; exact tyX14_ok
  | 17, h => cases h; exact tyJ16_ok
  | c + 18, h => simp [clG] at h
theorem clG_len : ∀ (c : Nat) (q : vw_C), clG[c]? = some q → (fidT (c + 5)).length = q.2.2 := by
  intro c q h
  match c, h with
  | 0, h => cases h; exact by decide +kernel
  | 1, h => cases h; exact by decide +kernel
  | 2, h => cases h; exact by decide +kernel
  | 3, h => cases h; exact by decide +kernel
  | 4, h => cases h; exact by decide +kernel
  | 5, h => cases h; exact by decide +kernel
  | 6, h => cases h; exact by decide +kernel
  | 7, h => cases h; exact by decide +kernel
  | 8, h => cases h; exact by decide +kernel
  | 9, h => cases h; exact by decide +kernel
  | 10, h => cases h; exact by decide +kernel
  | 11, h => cases h; exact by decide +kernel
  | 12, h => cases h; exact by decide +kernel
  | 13, h => cases h; exact by decide +kernel
  | 14, h => cases h; exact by decide +kernel
  | 15, h => cases h; exact by decide +kernel
  | 16, h => cases h; exact by decide +kernel
  | 17, h => cases h; exact by decide +kernel
  | c + 18, h => simp [clG] at h
theorem clG_df : ∀ (c : Nat) (q : vw_C), clG[c]? = some q → ∀ k, k < q.2.2 → defaultValue (tyG c k) = (if 1000 ≤ (fidT (c + 5)).getD k 0 then .null else .int 0) := by
  intro c q h
  match c, h with
  | 0, h => cases h; exact by decide +kernel
  | 1, h => cases h; exact by decide +kernel
  | 2, h => cases h; exact by decide +kernel
  | 3, h => cases h; exact by decide +kernel
  | 4, h => cases h; exact by decide +kernel
  | 5, h => cases h; exact by decide +kernel
  | 6, h => cases h; exact by decide +kernel
  | 7, h => cases h; exact by decide +kernel
  | 8, h => cases h; exact by decide +kernel
  | 9, h => cases h; exact by decide +kernel
  | 10, h => cases h; exact by decide +kernel
  | 11, h => cases h; exact by decide +kernel
  | 12, h => cases h; exact by decide +kernel
  | 13, h => cases h; exact by decide +kernel
  | 14, h => cases h; exact by decide +kernel
  | 15, h => cases h; exact by decide +kernel
  | 16, h => cases h; exact by decide +kernel
  | 17, h => cases h; exact by decide +kernel
  | c + 18, h => simp [clG] at h
theorem clG_lt : ∀ (c : Nat) (q : vw_C), clG[c]? = some q → c < 18 := by
  intro c q h
  match c, h with
  | 0, h => cases h; exact by decide
  | 1, h => cases h; exact by decide
  | 2, h => cases h; exact by decide
  | 3, h => cases h; exact by decide
  | 4, h => cases h; exact by decide
  | 5, h => cases h; exact by decide
  | 6, h => cases h; exact by decide
  | 7, h => cases h; exact by decide
  | 8, h => cases h; exact by decide
  | 9, h => cases h; exact by decide
  | 10, h => cases h; exact by decide
  | 11, h => cases h; exact by decide
  | 12, h => cases h; exact by decide
  | 13, h => cases h; exact by decide
  | 14, h => cases h; exact by decide
  | 15, h => cases h; exact by decide
  | 16, h => cases h; exact by decide
  | 17, h => cases h; exact by decide
  | c + 18, h => simp [clG] at h
theorem clG_nd : ∀ (c : Nat) (q : vw_C), clG[c]? = some q → ∀ i, i < q.2.2 → ∀ j, j < q.2.2 → (fidT (c + 5)).getD i 0 = (fidT (c + 5)).getD j 0 → i = j := by
  intro c q h
  match c, h with
  | 0, h => cases h; exact by decide +kernel
  | 1, h => cases h; exact by decide +kernel
  | 2, h => cases h; exact by decide +kernel
  | 3, h => cases h; exact by decide +kernel
  | 4, h => cases h; exact by decide +kernel
  | 5, h => cases h; exact by decide +kernel
  | 6, h => cases h; exact by decide +kernel
  | 7, h => cases h; exact by decide +kernel
  | 8, h => cases h; exact by decide +kernel
  | 9, h => cases h; exact by decide +kernel
  | 10, h => cases h; exact by decide +kernel
  | 11, h => cases h; exact by decide +kernel
  | 12, h => cases h; exact by decide +kernel
  | 13, h => cases h; exact by decide +kernel
  | 14, h => cases h; exact by decide +kernel
  | 15, h => cases h; exact by decide +kernel
  | 16, h => cases h; exact by decide +kernel
  | 17, h => cases h; exact by decide +kernel
  | c + 18, h => simp [clG] at h
def fChk (F : Nat) (D : String × String × String × Bool) : Bool := (List.range 18).all fun c => match clG[c]? with
  | none => false
  | some q => (List.range (fidT (c + 5)).length).all fun k => (fidT (c + 5)).getD k 0 != F || (decide (k < q.2.2) && decide (q.2.1 k = D))
/-- field number F is the field D, in whatever class -/
def FOK (F : Nat) (D : String × String × String × Bool) : Prop := ∀ o, hasF fidT F o = true → ∃ (c : Nat) (q : vw_C) (k : Nat), o = c + 5 ∧ clG[c]? = some q ∧ k < q.2.2 ∧ (fidT o).getD k 0 = F ∧ q.2.1 k = D
theorem FOK_of {F : Nat} {D : String × String × String × Bool} (h : fChk F D = true) : FOK F D := by
  intro o ho
  have hm : F ∈ fidT o := by simpa [hasF] using ho
  obtain ⟨k, hk, e⟩ := List.getElem_of_mem hm
  have ho5 : 5 ≤ o ∧ o < 23 := by
    have hne : fidT o ≠ [] := List.ne_nil_of_mem hm
    refine ⟨?_, ?_⟩
    · refine Nat.le_of_not_lt fun h5 => hne ?_
      match o, h5 with
      | 0, _ => rfl
      | 1, _ => rfl
      | 2, _ => rfl
      | 3, _ => rfl
      | 4, _ => rfl
      | n + 5, h5 => omega
    · refine Nat.lt_of_not_le fun h23 => hne ?_
      have hl : fidL.length = 23 := by decide
      unfold fidT
      rw [List.getD_eq_getElem?_getD, List.getElem?_eq_none (by omega)]
      rfl
  obtain ⟨c, rfl⟩ : ∃ c, o = c + 5 := ⟨o - 5, by omega⟩
  have hc : c < 18 := by omega
  have h1 := List.all_eq_true.mp h c (List.mem_range.mpr hc)
  cases hq : clG[c]? with
  | none => rw [hq] at h1; cases h1
  | some q =>
    rw [hq] at h1
    have h2 := List.all_eq_true.mp h1 k (List.mem_range.mpr hk)
    have hg : (fidT (c + 5)).getD k 0 = F := by rw [List.getD_eq_getElem?_getD, List.getElem?_eq_getElem hk]; exact e
    rw [hg] at h2
    simp only [bne_self_eq_false, Bool.false_or, Bool.and_eq_true, decide_eq_true_eq] at h2
    exact ⟨c, q, k, rfl, hq, h2.1, hg, h2.2⟩
theorem fF0 : FOK 0 ("ThirdWitness", "taped", "I", false) := FOK_of (by decide +kernel)
theorem fF1 : FOK 1 ("ThirdWitness", "fault", "I", false) := FOK_of (by decide +kernel)
theorem fF2 : FOK 2 ("ThirdWitness", "where", "I", false) := FOK_of (by decide +kernel)
theorem fF3 : FOK 3 ("ThirdWitness", "trouble", "I", false) := FOK_of (by decide +kernel)
theorem fF4 : FOK 4 ("ThirdWitness", "plain", "I", false) := FOK_of (by decide +kernel)
theorem fF5 : FOK 5 ("ThirdWitness", "others", "I", false) := FOK_of (by decide +kernel)
theorem fF6 : FOK 6 ("ThirdWitness", "boys", "I", false) := FOK_of (by decide +kernel)
theorem fF7 : FOK 7 ("ThirdWitness", "endedAt", "I", false) := FOK_of (by decide +kernel)
theorem fF8 : FOK 8 ("ThirdWitness", "leadNow", "I", false) := FOK_of (by decide +kernel)
theorem fF9 : FOK 9 ("ThirdWitness", "seenNow", "I", false) := FOK_of (by decide +kernel)
theorem fF10 : FOK 10 ("ThirdWitness", "thirdNow", "I", false) := FOK_of (by decide +kernel)
theorem fF11 : FOK 11 ("ThirdWitness", "seedThen", "I", false) := FOK_of (by decide +kernel)
theorem fF12 : FOK 12 ("ThirdWitness", "withBoys", "Z", false) := FOK_of (by decide +kernel)
theorem fF13 : FOK 13 ("ThirdWitness", "fitsNow", "I", false) := FOK_of (by decide +kernel)
theorem fF14 : FOK 14 ("ThirdWitness", "someNow", "I", false) := FOK_of (by decide +kernel)
theorem fF15 : FOK 15 ("ThirdWitness", "everyNow", "I", false) := FOK_of (by decide +kernel)
theorem fF16 : FOK 16 ("ThirdWitness", "askLeft", "I", false) := FOK_of (by decide +kernel)
theorem fF17 : FOK 17 ("java/util/AbstractList", "modCount", "I", false) := FOK_of (by decide +kernel)
theorem fF18 : FOK 18 ("java/util/ArrayList", "size", "I", false) := FOK_of (by decide +kernel)
theorem fF19 : FOK 19 ("ThirdWitnessModel", "thrown", "I", false) := FOK_of (by decide +kernel)
theorem fF20 : FOK 20 ("ThirdWitnessModel", "taped", "I", false) := FOK_of (by decide +kernel)
theorem fF21 : FOK 21 ("ThirdWitnessModel", "size", "I", false) := FOK_of (by decide +kernel)
theorem fF22 : FOK 22 ("ThirdWitnessModel", "at", "I", false) := FOK_of (by decide +kernel)
theorem fF23 : FOK 23 ("ThirdWitnessModel", "end", "I", false) := FOK_of (by decide +kernel)
theorem fF24 : FOK 24 ("ThirdWitnessModel", "token", "I", false) := FOK_of (by decide +kernel)
theorem fF25 : FOK 25 ("ThirdWitnessModel", "whole", "I", false) := FOK_of (by decide +kernel)
theorem fF26 : FOK 26 ("ThirdWitnessModel", "nameSize", "I", false) := FOK_of (by decide +kernel)
theorem fF27 : FOK 27 ("ThirdWitnessModel", "fault", "I", false) := FOK_of (by decide +kernel)
theorem fF28 : FOK 28 ("ThirdWitnessModel", "place", "I", false) := FOK_of (by decide +kernel)
theorem fF29 : FOK 29 ("ThirdWitnessModel", "trouble", "I", false) := FOK_of (by decide +kernel)
theorem fF30 : FOK 30 ("ThirdWitnessModel", "failed", "Z", false) := FOK_of (by decide +kernel)
theorem fF31 : FOK 31 ("ThirdWitnessModel", "hasTown", "Z", false) := FOK_of (by decide +kernel)
theorem fF32 : FOK 32 ("ThirdWitnessModel", "undos", "I", false) := FOK_of (by decide +kernel)
theorem fF33 : FOK 33 ("ThirdWitnessModel", "images", "I", false) := FOK_of (by decide +kernel)
theorem fF34 : FOK 34 ("ThirdWitnessModel", "ended", "I", false) := FOK_of (by decide +kernel)
theorem fF35 : FOK 35 ("ThirdWitnessModel", "endedAt", "I", false) := FOK_of (by decide +kernel)
theorem fF36 : FOK 36 ("ThirdWitnessModel", "lead", "I", false) := FOK_of (by decide +kernel)
theorem fF37 : FOK 37 ("ThirdWitnessModel", "seenThen", "I", false) := FOK_of (by decide +kernel)
theorem fF38 : FOK 38 ("ThirdWitnessModel", "seenAhead", "I", false) := FOK_of (by decide +kernel)
theorem fF39 : FOK 39 ("ThirdWitnessModel", "boysBy", "I", false) := FOK_of (by decide +kernel)
theorem fF40 : FOK 40 ("ThirdWitnessModel", "drawn", "I", false) := FOK_of (by decide +kernel)
theorem fF41 : FOK 41 ("ThirdWitnessModel", "setMany", "I", false) := FOK_of (by decide +kernel)
theorem fF42 : FOK 42 ("ThirdWitnessModel", "someOf", "I", false) := FOK_of (by decide +kernel)
theorem fF43 : FOK 43 ("ThirdWitnessModel", "allOf", "I", false) := FOK_of (by decide +kernel)
theorem fF44 : FOK 44 ("ThirdWitnessModel", "firstRest", "I", false) := FOK_of (by decide +kernel)
theorem fF45 : FOK 45 ("ThirdWitness$Reade\x72", "fault", "I", false) := FOK_of (by decide +kernel)
theorem fF46 : FOK 46 ("ThirdWitness$Reade\x72", "place", "I", false) := FOK_of (by decide +kernel)
theorem fF47 : FOK 47 ("ThirdWitness$Tokens", "size", "I", true) := FOK_of (by decide +kernel)
theorem fF48 : FOK 48 ("ThirdWitness$Tokens", "at", "I", false) := FOK_of (by decide +kernel)
theorem fF49 : FOK 49 ("ThirdWitness$Town", "boys", "I", false) := FOK_of (by decide +kernel)
theorem fF50 : FOK 50 ("ThirdWitness$Town", "goings", "I", false) := FOK_of (by decide +kernel)
theorem fF51 : FOK 51 ("ThirdWitness$Town", "hires", "I", false) := FOK_of (by decide +kernel)
theorem fF52 : FOK 52 ("ThirdWitness$Town", "unsures", "I", false) := FOK_of (by decide +kernel)
theorem fF53 : FOK 53 ("ThirdWitness$Town", "endings", "I", false) := FOK_of (by decide +kernel)
theorem fF54 : FOK 54 ("ThirdWitness$Token", "sort", "I", true) := FOK_of (by decide +kernel)
theorem fF55 : FOK 55 ("ThirdWitness$Token", "place", "I", true) := FOK_of (by decide +kernel)
theorem fF56 : FOK 56 ("ThirdWitness$Token", "numbe\x72", "I", true) := FOK_of (by decide +kernel)
theorem fF57 : FOK 57 ("java/lang/AbstractStringBuilde\x72", "code\x72", "B", false) := FOK_of (by decide +kernel)
theorem fF58 : FOK 58 ("java/lang/AbstractStringBuilde\x72", "maybeLatin1", "Z", false) := FOK_of (by decide +kernel)
theorem fF59 : FOK 59 ("java/lang/AbstractStringBuilde\x72", "count", "I", false) := FOK_of (by decide +kernel)
theorem fF60 : FOK 60 ("java/lang/String", "code\x72", "B", true) := FOK_of (by decide +kernel)
theorem fF61 : FOK 61 ("java/lang/String", "hash", "I", false) := FOK_of (by decide +kernel)
theorem fF62 : FOK 62 ("java/lang/String", "hashIsZero", "Z", false) := FOK_of (by decide +kernel)
theorem fF63 : FOK 63 ("ThirdWitness$Sight", "from", "I", true) := FOK_of (by decide +kernel)
theorem fF64 : FOK 64 ("ThirdWitness$Sight", "into", "I", true) := FOK_of (by decide +kernel)
theorem fF65 : FOK 65 ("ThirdWitness$Person", "first", "I", false) := FOK_of (by decide +kernel)
theorem fF66 : FOK 66 ("ThirdWitness$Person", "wit", "I", false) := FOK_of (by decide +kernel)
theorem fF67 : FOK 67 ("ThirdWitness$Person", "othe\x72", "I", false) := FOK_of (by decide +kernel)
theorem fF68 : FOK 68 ("ThirdWitness$Person", "goings", "I", false) := FOK_of (by decide +kernel)
theorem fF69 : FOK 69 ("ThirdWitness$Person", "price", "I", false) := FOK_of (by decide +kernel)
theorem fF70 : FOK 70 ("ThirdWitness$Person", "unsure", "Z", false) := FOK_of (by decide +kernel)
theorem fF71 : FOK 71 ("ThirdWitness$Quarrel", "one", "I", false) := FOK_of (by decide +kernel)
theorem fF72 : FOK 72 ("ThirdWitness$Quarrel", "two", "I", false) := FOK_of (by decide +kernel)
theorem fF73 : FOK 73 ("ThirdWitness$Quarrel", "place", "I", false) := FOK_of (by decide +kernel)
theorem fF74 : FOK 74 ("ThirdWitness$Quarrel", "from", "I", false) := FOK_of (by decide +kernel)
theorem fF75 : FOK 75 ("ThirdWitness$Quarrel", "needs", "I", false) := FOK_of (by decide +kernel)
theorem fF76 : FOK 76 ("ThirdWitness$Quarrel", "ended", "I", false) := FOK_of (by decide +kernel)
theorem fF77 : FOK 77 ("ThirdWitness$Scene", "bricked", "I", false) := FOK_of (by decide +kernel)
theorem fF78 : FOK 78 ("ThirdWitness$Scene", "spent", "I", false) := FOK_of (by decide +kernel)
theorem fF79 : FOK 79 ("java/lang/Throwable", "depth", "I", false) := FOK_of (by decide +kernel)
theorem fF1000 : FOK 1000 ("ThirdWitness", "tape", "[B", true) := FOK_of (by decide +kernel)
theorem fF1001 : FOK 1001 ("ThirdWitness", "town", "LThirdWitness$Town;", false) := FOK_of (by decide +kernel)
theorem fF1002 : FOK 1002 ("ThirdWitness", "scene", "LThirdWitness$Scene;", false) := FOK_of (by decide +kernel)
theorem fF1003 : FOK 1003 ("ThirdWitness", "tried", "LThirdWitness$Scene;", false) := FOK_of (by decide +kernel)
theorem fF1004 : FOK 1004 ("ThirdWitness", "past", "Ljava/util/ArrayList;", true) := FOK_of (by decide +kernel)
theorem fF1005 : FOK 1005 ("ThirdWitness", "images", "Ljava/util/ArrayList;", true) := FOK_of (by decide +kernel)
theorem fF1006 : FOK 1006 ("ThirdWitness", "otherIn", "[I", true) := FOK_of (by decide +kernel)
theorem fF1007 : FOK 1007 ("ThirdWitness", "come", "[J", true) := FOK_of (by decide +kernel)
theorem fF1008 : FOK 1008 ("java/util/ArrayList", "elementData", "[Ljava/lang/Object;", false) := FOK_of (by decide +kernel)
theorem fF1009 : FOK 1009 ("ThirdWitnessModel", "tape", "[I", true) := FOK_of (by decide +kernel)
theorem fF1010 : FOK 1010 ("ThirdWitnessModel", "letters", "[I", true) := FOK_of (by decide +kernel)
theorem fF1011 : FOK 1011 ("ThirdWitnessModel", "\x72", "[I", true) := FOK_of (by decide +kernel)
theorem fF1012 : FOK 1012 ("ThirdWitnessModel", "fresh", "[I", true) := FOK_of (by decide +kernel)
theorem fF1013 : FOK 1013 ("ThirdWitnessModel", "st", "[I", true) := FOK_of (by decide +kernel)
theorem fF1014 : FOK 1014 ("ThirdWitnessModel", "undone", "[I", true) := FOK_of (by decide +kernel)
theorem fF1015 : FOK 1015 ("ThirdWitnessModel", "kept", "[I", true) := FOK_of (by decide +kernel)
theorem fF1016 : FOK 1016 ("ThirdWitnessModel", "trial", "[I", true) := FOK_of (by decide +kernel)
theorem fF1017 : FOK 1017 ("ThirdWitnessModel", "wits", "[I", true) := FOK_of (by decide +kernel)
theorem fF1018 : FOK 1018 ("ThirdWitnessModel", "eyesNow", "[I", true) := FOK_of (by decide +kernel)
theorem fF1019 : FOK 1019 ("ThirdWitnessModel", "often", "[I", true) := FOK_of (by decide +kernel)
theorem fF1020 : FOK 1020 ("ThirdWitness$Reade\x72", "tokens", "LThirdWitness$Tokens;", true) := FOK_of (by decide +kernel)
theorem fF1021 : FOK 1021 ("ThirdWitness$Reade\x72", "town", "LThirdWitness$Town;", true) := FOK_of (by decide +kernel)
theorem fF1022 : FOK 1022 ("ThirdWitness$Reade\x72", "now", "LThirdWitness$Token;", false) := FOK_of (by decide +kernel)
theorem fF1023 : FOK 1023 ("ThirdWitness$Tokens", "text", "[B", true) := FOK_of (by decide +kernel)
theorem fF1024 : FOK 1024 ("ThirdWitness$Town", "places", "Ljava/util/ArrayList;", true) := FOK_of (by decide +kernel)
theorem fF1025 : FOK 1025 ("ThirdWitness$Town", "people", "Ljava/util/ArrayList;", true) := FOK_of (by decide +kernel)
theorem fF1026 : FOK 1026 ("ThirdWitness$Town", "quarrels", "Ljava/util/ArrayList;", true) := FOK_of (by decide +kernel)
theorem fF1027 : FOK 1027 ("ThirdWitness$Town", "sights", "Ljava/util/ArrayList;", true) := FOK_of (by decide +kernel)
theorem fF1028 : FOK 1028 ("ThirdWitness$Town", "unsure", "[I", true) := FOK_of (by decide +kernel)
theorem fF1029 : FOK 1029 ("ThirdWitness$Token", "word", "Ljava/lang/String;", true) := FOK_of (by decide +kernel)
theorem fF1030 : FOK 1030 ("java/lang/AbstractStringBuilde\x72", "value", "[B", false) := FOK_of (by decide +kernel)
theorem fF1031 : FOK 1031 ("java/lang/String", "value", "[B", true) := FOK_of (by decide +kernel)
theorem fF1032 : FOK 1032 ("ThirdWitness$Named", "name", "Ljava/lang/String;", true) := FOK_of (by decide +kernel)
theorem fF1033 : FOK 1033 ("ThirdWitness$Person", "minute", "[I", true) := FOK_of (by decide +kernel)
theorem fF1034 : FOK 1034 ("ThirdWitness$Person", "place", "[I", true) := FOK_of (by decide +kernel)
theorem fF1035 : FOK 1035 ("ThirdWitness$Scene", "town", "LThirdWitness$Town;", true) := FOK_of (by decide +kernel)
theorem fF1036 : FOK 1036 ("ThirdWitness$Scene", "sent", "[B", true) := FOK_of (by decide +kernel)
theorem fF1037 : FOK 1037 ("java/lang/Throwable", "cause", "Ljava/lang/Throwable;", false) := FOK_of (by decide +kernel)
theorem fF1038 : FOK 1038 ("java/lang/Throwable", "stackTrace", "[Ljava/lang/StackTraceElement;", false) := FOK_of (by decide +kernel)
theorem fF1039 : FOK 1039 ("java/lang/Throwable", "suppressedExceptions", "Ljava/util/List;", false) := FOK_of (by decide +kernel)
theorem fF1040 : FOK 1040 ("java/lang/Throwable", "detailMessage", "Ljava/lang/String;", false) := FOK_of (by decide +kernel)
theorem fF1041 : FOK 1041 ("java/lang/Throwable", "backtrace", "Ljava/lang/Object;", false) := FOK_of (by decide +kernel)
def strU : List (String × Nat × String × Nat) := [("ThirdWitness$Reade\x72", 113, "", 0), ("ThirdWitness$Reade\x72", 121, "town", 17), ("ThirdWitness$Reade\x72", 126, "place", 13), ("ThirdWitness$Reade\x72", 127, "sees", 16), ("ThirdWitness$Reade\x72", 129, "person", 12), ("ThirdWitness$Reade\x72", 131, "goes", 9), ("ThirdWitness$Reade\x72", 133, "quarrel", 15), ("ThirdWitness$Reade\x72", 135, "hire", 10), ("ThirdWitness$Reade\x72", 137, "unsure", 18), ("ThirdWitness$Reade\x72", 139, "ended", 6), ("ThirdWitness$Reade\x72", 160, "boys", 4), ("ThirdWitness$Reade\x72", 197, "plain", 14), ("ThirdWitness$Reade\x72", 199, "deaf", 5), ("ThirdWitness$Reade\x72", 201, "blind", 3), ("ThirdWitness$Reade\x72", 203, "babe", 2), ("ThirdWitness$Reade\x72", 224, "at", 1), ("ThirdWitness$Reade\x72", 229, "wit", 19), ("ThirdWitness$Reade\x72", 259, "from", 8), ("ThirdWitness$Reade\x72", 263, "needs", 11), ("ThirdWitness$Reade\x72", 269, "fo\x72", 7), ("ThirdWitness$Token", 33, "town", 17), ("ThirdWitness$Token", 35, "place", 13), ("ThirdWitness$Token", 36, "sees", 16), ("ThirdWitness$Token", 38, "person", 12), ("ThirdWitness$Token", 40, "goes", 9), ("ThirdWitness$Token", 42, "quarrel", 15), ("ThirdWitness$Token", 44, "hire", 10), ("ThirdWitness$Token", 46, "unsure", 18), ("ThirdWitness$Token", 48, "ended", 6), ("ThirdWitness$Tokens", 28, "", 0), ("ThirdWitnessModel", 116, "town", 17), ("ThirdWitnessModel", 118, "place", 13), ("ThirdWitnessModel", 119, "sees", 16), ("ThirdWitnessModel", 121, "person", 12), ("ThirdWitnessModel", 123, "goes", 9), ("ThirdWitnessModel", 125, "quarrel", 15), ("ThirdWitnessModel", 127, "hire", 10), ("ThirdWitnessModel", 129, "unsure", 18), ("ThirdWitnessModel", 131, "ended", 6), ("ThirdWitnessModel", 216, "boys", 4), ("ThirdWitnessModel", 229, "plain", 14), ("ThirdWitnessModel", 231, "deaf", 5), ("ThirdWitnessModel", 233, "blind", 3), ("ThirdWitnessModel", 235, "babe", 2), ("ThirdWitnessModel", 237, "at", 1), ("ThirdWitnessModel", 238, "wit", 19), ("ThirdWitnessModel", 243, "from", 8), ("ThirdWitnessModel", 245, "needs", 11), ("ThirdWitnessModel", 247, "fo\x72", 7)]
def statR : List (String × String × String × Nat) := [("java/util/ArrayList", "DEFAULTCAPACITY_EMPTY_ELEMENTDATA", "[Ljava/lang/Object;", 60), ("jdk/internal/util/Preconditions", "SIOOBE_FORMATTER", "Ljava/util/function/BiFunction;", 61), ("java/lang/Throwable", "UNASSIGNED_STACK", "[Ljava/lang/StackTraceElement;", 62), ("java/lang/Throwable", "SUPPRESSED_SENTINEL", "Ljava/util/List;", 63)]
def statI : List (String × String × String × Int32) := [("java/lang/String", "COMPACT_STRINGS", "Z", 1)]
def castU : List (String × String) := [("[B", "java/lang/Cloneable"), ("java/lang/System$2", "jdk/internal/access/JavaLangAccess"), ("java/util/NoSuchElementException", "java/util/NoSuchElementException"), ("ThirdWitness$Babe", "ThirdWitness$Named"), ("ThirdWitness$Blind", "ThirdWitness$Named"), ("ThirdWitness$Deaf", "ThirdWitness$Named"), ("ThirdWitness$Person", "ThirdWitness$Named"), ("ThirdWitness$Quarrel", "ThirdWitness$Named"), ("ThirdWitness$Babe", "ThirdWitness$Person"), ("ThirdWitness$Blind", "ThirdWitness$Person"), ("ThirdWitness$Deaf", "ThirdWitness$Person"), ("ThirdWitness", "java/lang/Object"), ("java/util/ArrayList", "java/lang/Object"), ("ThirdWitnessModel", "java/lang/Object"), ("ThirdWitness$Reade\x72", "java/lang/Object"), ("ThirdWitness$Tokens", "java/lang/Object"), ("ThirdWitness$Town", "java/lang/Object"), ("ThirdWitness$Token", "java/lang/Object"), ("java/lang/StringBuilde\x72", "java/lang/Object"), ("java/lang/String", "java/lang/Object"), ("java/lang/System$2", "java/lang/Object"), ("ThirdWitness$Named", "java/lang/Object"), ("ThirdWitness$Sight", "java/lang/Object"), ("ThirdWitness$Person", "java/lang/Object"), ("ThirdWitness$Deaf", "java/lang/Object"), ("ThirdWitness$Blind", "java/lang/Object"), ("ThirdWitness$Babe", "java/lang/Object"), ("ThirdWitness$Quarrel", "java/lang/Object"), ("ThirdWitness$Scene", "java/lang/Object"), ("java/util/NoSuchElementException", "java/lang/Object"), ("java/lang/Throwable", "java/lang/Object"), ("[B", "java/lang/Object"), ("[I", "java/lang/Object"), ("[J", "java/lang/Object"), ("[Ljava/lang/Object;", "java/lang/Object")]
def nestM : List (String × Nat × MethodName × String) := [("ThirdWitness$Reade\x72", 11, ⟨"ThirdWitness$Town", "<init>", "()V"⟩, "ThirdWitness"), ("ThirdWitness$Reade\x72", 63, ⟨"ThirdWitness", "in", "(III)Z"⟩, "ThirdWitness"), ("ThirdWitness$Scene", 61, ⟨"ThirdWitness", "has", "(II)Z"⟩, "ThirdWitness"), ("ThirdWitness$Tokens", 33, ⟨"ThirdWitness", "in", "(III)Z"⟩, "ThirdWitness")]
def nestF : List (String × Nat × String × String × String × String) := [("ThirdWitness", 79, "ThirdWitness$Reade\x72", "fault", "I", "ThirdWitness"), ("ThirdWitness", 83, "ThirdWitness$Reade\x72", "place", "I", "ThirdWitness")]
