/-! more small words of the generated walks -/
set_option maxRecDepth 100000
section
variable {α β γ δ ζ : Type} {z : ζ} {P : Prop}
theorem xNg {r : Option Nat} {K : Nat → Option ζ} (k : ∀ a, r = some a → K a = some z → P) : xN r K = some z → P := by
  intro h
  obtain ⟨a, e, h1⟩ := xN_el h
  exact k a e h1
def lc2 (x : Option (ζ ⊕ (α × β))) (k : α → β → Option ζ) : Option ζ := lc x fun q => k q.1 q.2
def lc3 (x : Option (ζ ⊕ (α × β × γ))) (k : α → β → γ → Option ζ) : Option ζ := lc x fun q => k q.1 q.2.1 q.2.2
def lcI2 (x : Option (ζ ⊕ (α × γ))) (k : α → γ → Option (ζ ⊕ β)) : Option (ζ ⊕ β) := lcI x fun q => k q.1 q.2
theorem lc2g {x : Option (ζ ⊕ (α × β))} {K : α → β → Option ζ} (k : ∀ o, x = some o → ((∀ r, o = .inl r → r = z) ∧ (∀ v, o = .inr v → K v.1 v.2 = some z)) → P) : lc2 x K = some z → P := lcg k
theorem lc3g {x : Option (ζ ⊕ (α × β × γ))} {K : α → β → γ → Option ζ} (k : ∀ o, x = some o → ((∀ r, o = .inl r → r = z) ∧ (∀ v, o = .inr v → K v.1 v.2.1 v.2.2 = some z)) → P) : lc3 x K = some z → P := lcg k
theorem lcI2g {x : Option (ζ ⊕ (α × γ))} {K : α → γ → Option (ζ ⊕ β)} {o2 : ζ ⊕ β} (k : ∀ o, x = some o → ((∀ r, o = .inl r → o2 = .inl r) ∧ (∀ v, o = .inr v → K v.1 v.2 = some o2)) → P) : lcI2 x K = some o2 → P := lcIg k
/-- the class object of a reference array -/
def gtC (σ : St) (r : Option Nat) (k : Option ζ) : Option ζ := xN r fun a => if decide (σ.ob a = 4) then k else none
theorem lsw_o {ps : List (Int × Int)} {x : Int32} {d : Int} (h : ∀ p ∈ ps, ¬ x = Int32.ofInt p.1) : Op.lookupswitch.offset ps d x.toInt = d := by
  induction ps with
  | nil => rfl
  | cons p l ih =>
    have h1 : ¬ x.toInt = p.1 := fun e => h p List.mem_cons_self (by rw [← e]; exact (Int32.ofInt_toInt x).symm)
    have h2 := ih fun q hq => h q (List.mem_cons_of_mem _ hq)
    simp only [Op.lookupswitch.offset] at h2 ⊢
    first
      | (rw [List.find?_cons_of_neg (by simpa using fun e => h1 e.symm)]; exact h2)
      | (simp [h1]; exact h2)
      | (simp [List.find?, h1, Ne.symm h1] at h2 ⊢; exact h2)
end
section RW
variable {G : gG} {Y : mY} {σ0 σE σ : St} {rE : Option V3} {pc : Nat} {ls : List (Nat × V3)} {st : List V3} {ζ : Type} {z : ζ}
theorem go_nwA1 {n : Int32} {K : St → Nat → Option ζ} (hd : decode Y.2.1 pc = .ok (.newarray .int, 2)) (h : nwA σ 1 n K = some z) (k : ∀ τ a, K τ a = some z → Go G Y σ0 σE rE (pc + 2) ls (rV (some a) :: st) τ) : Go G Y σ0 σE rE pc ls (iV n :: st) σ :=
  go_nwA (k0 := 0) (ty := .int) rfl rfl (fun C q => by cases q) (by decide) (fun σ n => by show Value.int (up1 σ.ai σ.sz (fun _ => 0) σ.sz 0) = _; rw [up1_eq]; rfl) q272 hd h k
theorem go_nwA2 {n : Int32} {K : St → Nat → Option ζ} (hd : decode Y.2.1 pc = .ok (.newarray .byte, 2)) (h : nwA σ 2 n K = some z) (k : ∀ τ a, K τ a = some z → Go G Y σ0 σE rE (pc + 2) ls (rV (some a) :: st) τ) : Go G Y σ0 σE rE pc ls (iV n :: st) σ :=
  go_nwA (k0 := 1) (ty := .byte) rfl rfl (fun C q => by cases q) (by decide) (fun σ n => by show Value.int (up1 σ.ai σ.sz (fun _ => 0) σ.sz 0) = _; rw [up1_eq]; rfl) q195 hd h k
theorem go_nwA3 {n : Int32} {K : St → Nat → Option ζ} (hd : decode Y.2.1 pc = .ok (.newarray .long, 2)) (h : nwA σ 3 n K = some z) (k : ∀ τ a, K τ a = some z → Go G Y σ0 σE rE (pc + 2) ls (rV (some a) :: st) τ) : Go G Y σ0 σE rE pc ls (iV n :: st) σ :=
  go_nwA (k0 := 2) (ty := .long) rfl rfl (fun C q => by cases q) (by decide) (fun σ n => by show Value.long (up1 σ.al σ.sz (fun _ => 0) σ.sz 0) = _; rw [up1_eq]; rfl) q273 hd h k
theorem go_getC {idx : Nat} {r : Option Nat} {K : Option ζ} (hl : Cond.methodLink Y.1 idx ⟨"java/lang/Object", "getClass", "()Ljava/lang/Class;"⟩ ∈ lw_all) (hfr : 1 ≤ Y.2.2.2.2.1) (hlo : (st.map vc).sum + 14 ≤ Y.2.2.2.2.2.1)
    (hsel : Cond.selects "[Ljava/lang/Object;" ⟨"java/lang/Object", "getClass", "()Ljava/lang/Class;"⟩ ⟨"java/lang/Object", "getClass", "()Ljava/lang/Class;"⟩ ∈ lw_all) (hinst : Cond.instanceMethod ⟨"java/lang/Object", "getClass", "()Ljava/lang/Class;"⟩ ∈ lw_all) (hnat : Cond.native ⟨"java/lang/Object", "getClass", "()Ljava/lang/Class;"⟩ ∈ lw_all)
    (hd : decode Y.2.1 pc = .ok (.invokevirtual idx, 3)) (h : gtC σ r K = some z) (k : K = some z → Go G Y σ0 σE rE (pc + 3) ls (rV (σ.ks 70) :: st) σ) : Go G Y σ0 σE rE pc ls (rV r :: st) σ := by
  obtain ⟨a, ea, h1⟩ := xN_el h
  subst ea
  obtain ⟨hb, h2⟩ := if_el h1
  have hob : σ.ob a = 4 := of_decide_eq_true hb
  intro p l e s m args below meth c C H locs lsA hR hX hS hl0
  obtain ⟨cell, g1, g2, g3, -⟩ := (hR.2.2 a).1 3 (.object "java/lang/Object") rfl hob
  obtain ⟨mi, e1, e2⟩ := C.kt.2.2.2.2.2.2.2.1
  have hW := k h2 p l e s m args below meth c C H locs lsA hR hX hS hl0
  rw [hX.2.1, e1] at hW
  exact va_getC C.1 C.2.1 (by rw [C.2.2.2.2.1]; exact hl0.1.symm) C.own (C.hts _ hl) (va_Dc.use C.kt.2.2.2.2.2.2.2.2.1) (C.hts _ hsel) (C.hts _ hinst) (C.hts _ hnat) e2 ⟨cell, g1, g3.stat, by rw [g2]; exact va_nmO (C.kt.2.1 3 _ rfl).2 rfl⟩ hfr (by show ((mS st).map fun v => v.category).sum + 14 ≤ Y.2.2.2.2.2.1; rw [mS_cat]; exact hlo) hd hW
theorem go_ldcM {idx : Nat} (hl : Cond.classLink Y.1 idx "[Ljava/lang/Object;" ∈ lw_all) (hd : decode Y.2.1 pc = .ok (.ldc idx, 2)) (k : Go G Y σ0 σE rE (pc + 2) ls (rV (σ.ks 70) :: st) σ) : Go G Y σ0 σE rE pc ls st σ := by
  intro p l e s m args below meth c C H locs lsA hR hX hS hl0
  obtain ⟨mi, e1, e2⟩ := C.kt.2.2.2.2.2.2.2.1
  have hW := k p l e s m args below meth c C H locs lsA hR hX hS hl0
  rw [hX.2.1, e1] at hW
  exact va_ldcM C.1 C.2.1 C.own (C.hts _ hl) e2 hd hW
end RW
section RW
variable {G : gG} {Y : mY} {σ0 σE σ : St} {rE : Option V3} {pc : Nat} {ls : List (Nat × V3)} {st : List V3} {ζ : Type} {z : ζ}
/-- a cast to byte[] -/
theorem go_castB {idx : Nat} {r : Option Nat} {K : Option ζ} (hl : Cond.classLink Y.1 idx "[B" ∈ lw_all) (hd : decode Y.2.1 pc = .ok (.checkcast idx, 3)) (h : ck σ [2] r K = some z) (k : K = some z → Go G Y σ0 σE rE (pc + 3) ls (rV r :: st) σ) : Go G Y σ0 σE rE pc ls (rV r :: st) σ := by
  obtain ⟨a, ea, h1⟩ := xN_el h
  subst ea
  obtain ⟨hb, h2⟩ := if_el h1
  have hob : σ.ob a = 2 := by simpa using hb
  intro p l e s m args below meth c C H locs lsA hR hX hS hl0
  obtain ⟨cell, g1, g2, g3, -⟩ := (hR.2.2 a).1 1 .byte rfl hob
  have hnm : s.vm.findClass "[B" = some cell.cls := by rw [g2]; exact (C.kt.2.1 1 .byte rfl).2
  exact va_castE C.1 C.2.1 C.own (C.hts _ hl) ⟨cell, g1, g3.stat, hnm⟩ hd (k h2 p l e s m args below meth c C H locs lsA hR hX hS hl0)
end RW
section RW
variable {G : gG} {Y Yc : mY} {σ0 σE σ τ : St} {rE rv : Option V3} {pc idx n : Nat} {ls : List (Nat × V3)} {st : List V3} {y : MethodName}
/-- the private method of the class above -/
theorem go_callE (b : Nat) (vs rest : List V3) (hst : vs.reverse ++ rV (some b) :: rest = st) (hy : y = eciY) (hob : σ.ob b = 12) (hM : Mt G Yc y (rV (some b) :: vs) σ rv τ) (hYo : YOK y n) (hn : vs.length = n) (hcode : Cond.code y Yc.2.1 Yc.2.2.1 Yc.2.2.2.1 ∈ lw_all) (hini : Cond.initialized y.cls ∈ lw_all) (hinst : Cond.instanceMethod y ∈ lw_all) (hl : Cond.methodLink Y.1 idx y ∈ lw_all) (hfr : Yc.2.2.2.2.1 + 1 ≤ Y.2.2.2.2.1) (hlo : 8 + (Yc.2.2.1 + 11) + Yc.2.2.2.2.2.1 ≤ Y.2.2.2.2.2.1) (h8 : (rest.map vc).sum ≤ 8) (hd : decode Y.2.1 pc = .ok (.invokevirtual idx, 3))
    {st2 : List V3} (hst2 : rv.toList ++ rest = st2) (k : Go G Y σ0 σE rE (pc + 3) ls st2 τ) : Go G Y σ0 σE rE pc ls st σ := by
  subst hst
  subst hst2
  subst hy
  intro p l e s m args below meth c C H locs lsA hR hX hS hl0
  obtain ⟨cellB, b1, b2, b3⟩ := hR.obj (c := 7) (q := (RJ4, TJ4, 4)) C.kt rfl hob
  have hsel : (Cond.selects "java/lang/StringBuilde\x72" eciY eciY).before args s = true := word_at (s := s) (State.WarmedH.refl s) (Or.inl rfl) C.kt.2.2.2.2.2.2.2.2.2
  rw [mS_rev]
  exact go_after C hR hX hS hl0 (fun T hT X => callV X C.1 C.own (C.hts _ hl) (C.hts _ hinst) hsel (C.hts _ hcode) hYo.1 (go_back C hM hcode hini hfr hlo) (by rw [hT]; exact b1) b2 b3 (g := F0 m pc lsA ((mS vs).reverse ++ .ref b :: mS rest)) rfl (hl0.1.trans C.2.2.2.2.1.symm) (argsL := mS vs) (rest := mS rest) (fun sig hs => by rw [mS_len, hn]; exact hYo.len hs) rfl (room8 h8) (by rw [C.2.1]; exact hd)
    (fun vm₁ hW₁ => ⟨hX.room.1, hX.room.2, C.pre hR hX hS (T.setVm vm₁) hT hW₁⟩)) k
end RW
def mxI (x y : Int32) : Int32 := if x < y then y else x
def mnI (x y : Int32) : Int32 := if y < x then y else x
def abI (x : Int32) : Int32 := if 0 ≤ x then x else 0 - x
section RW
variable {G : gG} {Y : mY} {σ0 σE σ : St} {rE : Option V3} {pc idx : Nat} {ls : List (Nat × V3)} {st : List V3}
theorem go_max {x y : Int32} (hl : Cond.methodLink Y.1 idx Lib.Math.max.name ∈ lw_all) (hst : Cond.static Lib.Math.max.name ∈ lw_all) (hini : Cond.initialized "java/lang/Math" ∈ lw_all) (hcode : Cond.code Lib.Math.max.name Lib.Math.max.code 2 (some .int) ∈ lw_all) (hfr : 1 ≤ Y.2.2.2.2.1) (hlo : (st.map vc).sum + 13 ≤ Y.2.2.2.2.2.1) (hd : decode Y.2.1 pc = .ok (.invokestatic idx, 3)) (k : Go G Y σ0 σE rE (pc + 3) ls (iV (mxI x y) :: st) σ) : Go G Y σ0 σE rE pc ls (iV y :: iV x :: st) σ := by
  intro p l e s m args below meth c C H locs lsA hR hX hS hl0
  exact va_mmax C.1 C.2.1 (by rw [C.2.2.2.2.1]; exact hl0.1.symm) C.own (C.hts _ hl) (C.hts _ hst) (C.hts _ hini) (C.hts _ hcode) hfr (by show ((mS st).map fun v => v.category).sum + 13 ≤ Y.2.2.2.2.2.1; rw [mS_cat]; exact hlo) (by have := hX.room.1; show _ ≤ σ0.rc; omega) (by show _ ≤ σ0.rs; omega) hd (k p l e s m args below meth c C H locs lsA hR hX hS hl0)
theorem go_min {x y : Int32} (hl : Cond.methodLink Y.1 idx Lib.Math.min.name ∈ lw_all) (hst : Cond.static Lib.Math.min.name ∈ lw_all) (hini : Cond.initialized "java/lang/Math" ∈ lw_all) (hcode : Cond.code Lib.Math.min.name Lib.Math.min.code 2 (some .int) ∈ lw_all) (hfr : 1 ≤ Y.2.2.2.2.1) (hlo : (st.map vc).sum + 13 ≤ Y.2.2.2.2.2.1) (hd : decode Y.2.1 pc = .ok (.invokestatic idx, 3)) (k : Go G Y σ0 σE rE (pc + 3) ls (iV (mnI x y) :: st) σ) : Go G Y σ0 σE rE pc ls (iV y :: iV x :: st) σ := by
  intro p l e s m args below meth c C H locs lsA hR hX hS hl0
  exact va_mmin C.1 C.2.1 (by rw [C.2.2.2.2.1]; exact hl0.1.symm) C.own (C.hts _ hl) (C.hts _ hst) (C.hts _ hini) (C.hts _ hcode) hfr (by show ((mS st).map fun v => v.category).sum + 13 ≤ Y.2.2.2.2.2.1; rw [mS_cat]; exact hlo) (by have := hX.room.1; show _ ≤ σ0.rc; omega) (by show _ ≤ σ0.rs; omega) hd (k p l e s m args below meth c C H locs lsA hR hX hS hl0)
theorem go_abs {x : Int32} (hl : Cond.methodLink Y.1 idx Lib.Math.abs.name ∈ lw_all) (hst : Cond.static Lib.Math.abs.name ∈ lw_all) (hini : Cond.initialized "java/lang/Math" ∈ lw_all) (hcode : Cond.code Lib.Math.abs.name Lib.Math.abs.code 1 (some .int) ∈ lw_all) (hfr : 1 ≤ Y.2.2.2.2.1) (hlo : (st.map vc).sum + 13 ≤ Y.2.2.2.2.2.1) (hd : decode Y.2.1 pc = .ok (.invokestatic idx, 3)) (k : Go G Y σ0 σE rE (pc + 3) ls (iV (abI x) :: st) σ) : Go G Y σ0 σE rE pc ls (iV x :: st) σ := by
  intro p l e s m args below meth c C H locs lsA hR hX hS hl0
  exact va_mabs C.1 C.2.1 (by rw [C.2.2.2.2.1]; exact hl0.1.symm) C.own (C.hts _ hl) (C.hts _ hst) (C.hts _ hini) (C.hts _ hcode) hfr (by show ((mS st).map fun v => v.category).sum + 13 ≤ Y.2.2.2.2.2.1; rw [mS_cat]; exact hlo) (by have := hX.room.1; show _ ≤ σ0.rc; omega) (by show _ ≤ σ0.rs; omega) hd (k p l e s m args below meth c C H locs lsA hR hX hS hl0)
/-- Object() -/
theorem go_objI {b : Nat} (hl : Cond.methodLink Y.1 idx objectInit ∈ lw_all) (hfr : 1 ≤ Y.2.2.2.2.1) (hlo : (st.map vc).sum + 12 ≤ Y.2.2.2.2.2.1) (hinst : Cond.instanceMethod objectInit ∈ lw_all) (hcode : Cond.code objectInit ⟨#[0xb1]⟩ 1 none ∈ lw_all) (hd : decode Y.2.1 pc = .ok (.invokespecial idx, 3)) (k : Go G Y σ0 σE rE (pc + 3) ls st σ) : Go G Y σ0 σE rE pc ls (rV (some b) :: st) σ := by
  intro p l e s m args below meth c C H locs lsA hR hX hS hl0
  exact W.objInit C.1 C.2.1 C.own (C.hts _ hl) (C.hts _ hinst) (C.hts _ hcode) rfl (by rw [C.2.2.2.2.1]; exact hl0.1) rfl hd hfr (by show 2 * 0 + ((mS st).map fun v => v.category).sum + 12 ≤ Y.2.2.2.2.2.1; rw [mS_cat]; omega) (k p l e s m args below meth c C H locs lsA hR hX hS hl0)
end RW
