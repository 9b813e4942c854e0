/-! ROWS of the judgement Go that touch no heap (by gen/rows1.py) -/
set_option maxRecDepth 100000
section RW
variable {G : gG} {Y : mY} {σ0 σE σ : St} {rE : Option V3} {pc : Nat} {ls : List (Nat × V3)} {st : List V3} {ζ : Type} {z : ζ}
theorem ite_t {c : Prop} [Decidable c] {A B : Option ζ} {P : Prop} (h : (if c then A else B) = some z) (k1 : A = some z → P) (k2 : B = some z → P) : P := by
  by_cases hc : c
  · rw [if_pos hc] at h; exact k1 h
  · rw [if_neg hc] at h; exact k2 h
theorem go_iconst {n : Int} {v : Int32} (hd : decode Y.2.1 pc = .ok (.iconst n, 1)) (hv : Int32.ofInt n = v) (k : Go G Y σ0 σE rE (pc + 1) ls (iV v :: st) σ) : Go G Y σ0 σE rE pc ls (st) σ := by
  intro p l e s m args below meth c C H locs lsA hR hX hS hl
  exact lv_iconst C.1 C.2.1 hd hv (k p l e s m args below meth c C H locs lsA hR hX hS hl)
theorem go_bipush {n : Int} {v : Int32} (hd : decode Y.2.1 pc = .ok (.bipush n, 2)) (hv : (Int8.ofInt n).toInt32 = v) (k : Go G Y σ0 σE rE (pc + 2) ls (iV v :: st) σ) : Go G Y σ0 σE rE pc ls (st) σ := by
  intro p l e s m args below meth c C H locs lsA hR hX hS hl
  exact lv_bipush C.1 C.2.1 hd hv (k p l e s m args below meth c C H locs lsA hR hX hS hl)
theorem go_sipush {n : Int} {v : Int32} (hd : decode Y.2.1 pc = .ok (.sipush n, 3)) (hv : (Int16.ofInt n).toInt32 = v) (k : Go G Y σ0 σE rE (pc + 3) ls (iV v :: st) σ) : Go G Y σ0 σE rE pc ls (st) σ := by
  intro p l e s m args below meth c C H locs lsA hR hX hS hl
  exact lv_sipush C.1 C.2.1 hd hv (k p l e s m args below meth c C H locs lsA hR hX hS hl)
theorem go_lconst {n : Fin 2} {v : Int64} (hd : decode Y.2.1 pc = .ok (.lconst n, 1)) (hv : Int64.ofNat (n : Nat) = v) (k : Go G Y σ0 σE rE (pc + 1) ls (lV v :: st) σ) : Go G Y σ0 σE rE pc ls (st) σ := by
  intro p l e s m args below meth c C H locs lsA hR hX hS hl
  exact lv_lconst C.1 C.2.1 hd hv (k p l e s m args below meth c C H locs lsA hR hX hS hl)
theorem go_ldcI {idx : Nat} {v : Int32} (hd : decode Y.2.1 pc = .ok (.ldc idx, 2)) (hw : Cond.constant Y.1 idx v ∈ lw_all) (k : Go G Y σ0 σE rE (pc + 2) ls (iV v :: st) σ) : Go G Y σ0 σE rE pc ls (st) σ := by
  intro p l e s m args below meth c C H locs lsA hR hX hS hl
  exact lv_ldc C.1 C.2.1 C.2.2.2.2.2.1 (C.2.2.2.2.2.2.1 _ hw) hd (k p l e s m args below meth c C H locs lsA hR hX hS hl)
theorem go_ldcwI {idx : Nat} {v : Int32} (hd : decode Y.2.1 pc = .ok (.ldc_w idx, 3)) (hw : Cond.constant Y.1 idx v ∈ lw_all) (k : Go G Y σ0 σE rE (pc + 3) ls (iV v :: st) σ) : Go G Y σ0 σE rE pc ls (st) σ := by
  intro p l e s m args below meth c C H locs lsA hR hX hS hl
  exact lv_ldcw C.1 C.2.1 C.2.2.2.2.2.1 (C.2.2.2.2.2.2.1 _ hw) hd (k p l e s m args below meth c C H locs lsA hR hX hS hl)
theorem go_ldc2 {idx : Nat} {v : Int64} (hd : decode Y.2.1 pc = .ok (.ldc2_w idx, 3)) (hw : Cond.constantLong Y.1 idx v ∈ lw_all) (k : Go G Y σ0 σE rE (pc + 3) ls (lV v :: st) σ) : Go G Y σ0 σE rE pc ls (st) σ := by
  intro p l e s m args below meth c C H locs lsA hR hX hS hl
  exact lv_ldc2 C.1 C.2.1 C.2.2.2.2.2.1 (C.2.2.2.2.2.2.1 _ hw) hd (k p l e s m args below meth c C H locs lsA hR hX hS hl)
theorem go_null (hd : decode Y.2.1 pc = .ok (.aconst_null, 1)) (k : Go G Y σ0 σE rE (pc + 1) ls (rV none :: st) σ) : Go G Y σ0 σE rE pc ls (st) σ := by
  intro p l e s m args below meth c C H locs lsA hR hX hS hl
  exact lv_null C.1 C.2.1 hd (k p l e s m args below meth c C H locs lsA hR hX hS hl)
theorem go_iload (n : Nat) {i : Nat} {x : Int32} (hd : decode Y.2.1 pc = .ok (.iload i, 2)) (hk : ls[n]? = some (i, iV x)) (k : Go G Y σ0 σE rE (pc + 2) ls (iV x :: st) σ) : Go G Y σ0 σE rE pc ls (st) σ := by
  intro p l e s m args below meth c C H locs lsA hR hX hS hl
  exact lv_iload C.1 C.2.1 hd (lv_at hl n (mL_at hk)) (k p l e s m args below meth c C H locs lsA hR hX hS hl)
theorem go_iload_n (n : Nat) {j : Fin 4} {i : Nat} {x : Int32} (hd : decode Y.2.1 pc = .ok (.iload_n j, 1)) (hj : (j : Nat) = i) (hk : ls[n]? = some (i, iV x)) (k : Go G Y σ0 σE rE (pc + 1) ls (iV x :: st) σ) : Go G Y σ0 σE rE pc ls (st) σ := by
  intro p l e s m args below meth c C H locs lsA hR hX hS hl
  exact lv_iload_n C.1 C.2.1 hd hj (lv_at hl n (mL_at hk)) (k p l e s m args below meth c C H locs lsA hR hX hS hl)
theorem go_lload (n : Nat) {i : Nat} {x : Int64} (hd : decode Y.2.1 pc = .ok (.lload i, 2)) (hk : ls[n]? = some (i, lV x)) (k : Go G Y σ0 σE rE (pc + 2) ls (lV x :: st) σ) : Go G Y σ0 σE rE pc ls (st) σ := by
  intro p l e s m args below meth c C H locs lsA hR hX hS hl
  exact lv_lload C.1 C.2.1 hd (lv_at hl n (mL_at hk)) (k p l e s m args below meth c C H locs lsA hR hX hS hl)
theorem go_lload_n (n : Nat) {j : Fin 4} {i : Nat} {x : Int64} (hd : decode Y.2.1 pc = .ok (.lload_n j, 1)) (hj : (j : Nat) = i) (hk : ls[n]? = some (i, lV x)) (k : Go G Y σ0 σE rE (pc + 1) ls (lV x :: st) σ) : Go G Y σ0 σE rE pc ls (st) σ := by
  intro p l e s m args below meth c C H locs lsA hR hX hS hl
  exact lv_lload_n C.1 C.2.1 hd hj (lv_at hl n (mL_at hk)) (k p l e s m args below meth c C H locs lsA hR hX hS hl)
theorem go_aload (n : Nat) {i : Nat} {x : Option Nat} (hd : decode Y.2.1 pc = .ok (.aload i, 2)) (hk : ls[n]? = some (i, rV x)) (k : Go G Y σ0 σE rE (pc + 2) ls (rV x :: st) σ) : Go G Y σ0 σE rE pc ls (st) σ := by
  intro p l e s m args below meth c C H locs lsA hR hX hS hl
  have hg := lv_at hl n (mL_at hk)
  have hW := k p l e s m args below meth c C H locs lsA hR hX hS hl
  cases x with
  | none => exact lv_aloadN C.1 C.2.1 hd hg hW
  | some a => exact lv_aload C.1 C.2.1 hd hg hW
theorem go_aload_n (n : Nat) {j : Fin 4} {i : Nat} {x : Option Nat} (hd : decode Y.2.1 pc = .ok (.aload_n j, 1)) (hj : (j : Nat) = i) (hk : ls[n]? = some (i, rV x)) (k : Go G Y σ0 σE rE (pc + 1) ls (rV x :: st) σ) : Go G Y σ0 σE rE pc ls (st) σ := by
  intro p l e s m args below meth c C H locs lsA hR hX hS hl
  have hg := lv_at hl n (mL_at hk)
  have hW := k p l e s m args below meth c C H locs lsA hR hX hS hl
  cases x with
  | none => exact lv_aload_nN C.1 C.2.1 hd hj hg hW
  | some a => exact lv_aload_n C.1 C.2.1 hd hj hg hW
theorem go_istore {i : Nat} {x : Int32} {ls2 : List (Nat × V3)} (hd : decode Y.2.1 pc = .ok (.istore i, 2)) (hn : i < Y.2.2.1) (hls : lput i (iV x) ls = ls2) (k : Go G Y σ0 σE rE (pc + 2) ls2 (st) σ) : Go G Y σ0 σE rE pc ls (iV x :: st) σ := by
  intro p l e s m args below meth c C H locs lsA hR hX hS hl
  exact lv_istore C.1 C.2.1 hd hl hn (by rw [← hls]; exact mL_lput i (iV x) ls) (fun lsB hB => k p l e s m args below meth c C H locs lsB hR hX hS hB)
theorem go_istore_n {j : Fin 4} {i : Nat} {x : Int32} {ls2 : List (Nat × V3)} (hd : decode Y.2.1 pc = .ok (.istore_n j, 1)) (hj : (j : Nat) = i) (hn : i < Y.2.2.1) (hls : lput i (iV x) ls = ls2) (k : Go G Y σ0 σE rE (pc + 1) ls2 (st) σ) : Go G Y σ0 σE rE pc ls (iV x :: st) σ := by
  intro p l e s m args below meth c C H locs lsA hR hX hS hl
  exact lv_istore_n C.1 C.2.1 hd hj hl hn (by rw [← hls]; exact mL_lput i (iV x) ls) (fun lsB hB => k p l e s m args below meth c C H locs lsB hR hX hS hB)
theorem go_lstore {i : Nat} {x : Int64} {ls2 : List (Nat × V3)} (hd : decode Y.2.1 pc = .ok (.lstore i, 2)) (hn : i + 1 < Y.2.2.1) (hls : lput2 i (lV x) ls = ls2) (k : Go G Y σ0 σE rE (pc + 2) ls2 (st) σ) : Go G Y σ0 σE rE pc ls (lV x :: st) σ := by
  intro p l e s m args below meth c C H locs lsA hR hX hS hl
  exact lv_lstore C.1 C.2.1 hd hl hn (by rw [← hls]; exact mL_lput2 i (lV x) ls) (fun lsB hB => k p l e s m args below meth c C H locs lsB hR hX hS hB)
theorem go_lstore_n {j : Fin 4} {i : Nat} {x : Int64} {ls2 : List (Nat × V3)} (hd : decode Y.2.1 pc = .ok (.lstore_n j, 1)) (hj : (j : Nat) = i) (hn : i + 1 < Y.2.2.1) (hls : lput2 i (lV x) ls = ls2) (k : Go G Y σ0 σE rE (pc + 1) ls2 (st) σ) : Go G Y σ0 σE rE pc ls (lV x :: st) σ := by
  intro p l e s m args below meth c C H locs lsA hR hX hS hl
  exact lv_lstore_n C.1 C.2.1 hd hj hl hn (by rw [← hls]; exact mL_lput2 i (lV x) ls) (fun lsB hB => k p l e s m args below meth c C H locs lsB hR hX hS hB)
theorem go_astore {i : Nat} {x : Option Nat} {ls2 : List (Nat × V3)} (hd : decode Y.2.1 pc = .ok (.astore i, 2))  (hn : i < Y.2.2.1) (hls : lput i (rV x) ls = ls2) (k : Go G Y σ0 σE rE (pc + 2) ls2 (st) σ) : Go G Y σ0 σE rE pc ls (rV x :: st) σ := by
  intro p l e s m args below meth c C H locs lsA hR hX hS hl
  have he := mL_lput i (rV x) ls
  rw [hls] at he
  cases x with
  | none => exact lv_astoreN C.1 C.2.1 hd hl hn he (fun lsB hB => k p l e s m args below meth c C H locs lsB hR hX hS hB)
  | some a => exact lv_astore C.1 C.2.1 hd hl hn he (fun lsB hB => k p l e s m args below meth c C H locs lsB hR hX hS hB)
theorem go_astore_n {j : Fin 4} {i : Nat} {x : Option Nat} {ls2 : List (Nat × V3)} (hd : decode Y.2.1 pc = .ok (.astore_n j, 1)) (hj : (j : Nat) = i) (hn : i < Y.2.2.1) (hls : lput i (rV x) ls = ls2) (k : Go G Y σ0 σE rE (pc + 1) ls2 (st) σ) : Go G Y σ0 σE rE pc ls (rV x :: st) σ := by
  intro p l e s m args below meth c C H locs lsA hR hX hS hl
  have he := mL_lput i (rV x) ls
  rw [hls] at he
  cases x with
  | none => exact lv_astore_nN C.1 C.2.1 hd hj hl hn he (fun lsB hB => k p l e s m args below meth c C H locs lsB hR hX hS hB)
  | some a => exact lv_astore_n C.1 C.2.1 hd hj hl hn he (fun lsB hB => k p l e s m args below meth c C H locs lsB hR hX hS hB)
theorem go_iinc (n : Nat) {i : Nat} {d : Int} {x v : Int32} {ls2 : List (Nat × V3)} (hd : decode Y.2.1 pc = .ok (.iinc i d, 3)) (hk : ls[n]? = some (i, iV x)) (hv : x + Int32.ofInt d = v) (hn : i < Y.2.2.1) (hls : lput i (iV v) ls = ls2) (k : Go G Y σ0 σE rE (pc + 3) ls2 (st) σ) : Go G Y σ0 σE rE pc ls (st) σ := by
  intro p l e s m args below meth c C H locs lsA hR hX hS hl
  exact lv_iinc C.1 C.2.1 hd hl (k := n) (mL_at hk) hv hn (by rw [← hls]; exact mL_lput i (iV v) ls) (fun lsB hB => k p l e s m args below meth c C H locs lsB hR hX hS hB)
theorem go_iadd {x y : Int32} (hd : decode Y.2.1 pc = .ok (.iadd, 1)) (k : Go G Y σ0 σE rE (pc + 1) ls (iV (x + y) :: st) σ) : Go G Y σ0 σE rE pc ls (iV y :: iV x :: st) σ := by
  intro p l e s m args below meth c C H locs lsA hR hX hS hl
  exact lv_iadd C.1 C.2.1 hd (k p l e s m args below meth c C H locs lsA hR hX hS hl)
theorem go_isub {x y : Int32} (hd : decode Y.2.1 pc = .ok (.isub, 1)) (k : Go G Y σ0 σE rE (pc + 1) ls (iV (x - y) :: st) σ) : Go G Y σ0 σE rE pc ls (iV y :: iV x :: st) σ := by
  intro p l e s m args below meth c C H locs lsA hR hX hS hl
  exact lv_isub C.1 C.2.1 hd (k p l e s m args below meth c C H locs lsA hR hX hS hl)
theorem go_imul {x y : Int32} (hd : decode Y.2.1 pc = .ok (.imul, 1)) (k : Go G Y σ0 σE rE (pc + 1) ls (iV (x * y) :: st) σ) : Go G Y σ0 σE rE pc ls (iV y :: iV x :: st) σ := by
  intro p l e s m args below meth c C H locs lsA hR hX hS hl
  exact lv_imul C.1 C.2.1 hd (k p l e s m args below meth c C H locs lsA hR hX hS hl)
theorem go_iand {x y : Int32} (hd : decode Y.2.1 pc = .ok (.iand, 1)) (k : Go G Y σ0 σE rE (pc + 1) ls (iV (x &&& y) :: st) σ) : Go G Y σ0 σE rE pc ls (iV y :: iV x :: st) σ := by
  intro p l e s m args below meth c C H locs lsA hR hX hS hl
  exact lv_iand C.1 C.2.1 hd (k p l e s m args below meth c C H locs lsA hR hX hS hl)
theorem go_ior {x y : Int32} (hd : decode Y.2.1 pc = .ok (.ior, 1)) (k : Go G Y σ0 σE rE (pc + 1) ls (iV (x ||| y) :: st) σ) : Go G Y σ0 σE rE pc ls (iV y :: iV x :: st) σ := by
  intro p l e s m args below meth c C H locs lsA hR hX hS hl
  exact lv_ior C.1 C.2.1 hd (k p l e s m args below meth c C H locs lsA hR hX hS hl)
theorem go_ixor {x y : Int32} (hd : decode Y.2.1 pc = .ok (.ixor, 1)) (k : Go G Y σ0 σE rE (pc + 1) ls (iV (x ^^^ y) :: st) σ) : Go G Y σ0 σE rE pc ls (iV y :: iV x :: st) σ := by
  intro p l e s m args below meth c C H locs lsA hR hX hS hl
  exact lv_ixor C.1 C.2.1 hd (k p l e s m args below meth c C H locs lsA hR hX hS hl)
theorem go_ishl {x y : Int32} (hd : decode Y.2.1 pc = .ok (.ishl, 1)) (k : Go G Y σ0 σE rE (pc + 1) ls (iV (x <<< (y &&& 31)) :: st) σ) : Go G Y σ0 σE rE pc ls (iV y :: iV x :: st) σ := by
  intro p l e s m args below meth c C H locs lsA hR hX hS hl
  exact lv_ishl C.1 C.2.1 hd (k p l e s m args below meth c C H locs lsA hR hX hS hl)
theorem go_ishr {x y : Int32} (hd : decode Y.2.1 pc = .ok (.ishr, 1)) (k : Go G Y σ0 σE rE (pc + 1) ls (iV (x >>> (y &&& 31)) :: st) σ) : Go G Y σ0 σE rE pc ls (iV y :: iV x :: st) σ := by
  intro p l e s m args below meth c C H locs lsA hR hX hS hl
  exact lv_ishr C.1 C.2.1 hd (k p l e s m args below meth c C H locs lsA hR hX hS hl)
theorem go_iushr {x y : Int32} (hd : decode Y.2.1 pc = .ok (.iushr, 1)) (k : Go G Y σ0 σE rE (pc + 1) ls (iV (x.toUInt32 >>> (y.toUInt32 &&& Int32.toUInt32 31)).toInt32 :: st) σ) : Go G Y σ0 σE rE pc ls (iV y :: iV x :: st) σ := by
  intro p l e s m args below meth c C H locs lsA hR hX hS hl
  exact lv_iushr C.1 C.2.1 hd rfl (k p l e s m args below meth c C H locs lsA hR hX hS hl)
theorem go_ineg {x : Int32} (hd : decode Y.2.1 pc = .ok (.ineg, 1)) (k : Go G Y σ0 σE rE (pc + 1) ls (iV (-x) :: st) σ) : Go G Y σ0 σE rE pc ls (iV x :: st) σ := by
  intro p l e s m args below meth c C H locs lsA hR hX hS hl
  exact lv_ineg C.1 C.2.1 hd (k p l e s m args below meth c C H locs lsA hR hX hS hl)
theorem go_idiv {x y : Int32} {K : Option ζ} (hd : decode Y.2.1 pc = .ok (.idiv, 1)) (h : dzI y K = some z) (k : K = some z → Go G Y σ0 σE rE (pc + 1) ls (iV (x / y) :: st) σ) : Go G Y σ0 σE rE pc ls (iV y :: iV x :: st) σ := by
  intro p l e s m args below meth c C H locs lsA hR hX hS hl
  unfold dzI at h
  by_cases hy : y = 0
  · rw [if_pos hy] at h; cases h
  · rw [if_neg hy] at h
    exact lv_idiv C.1 C.2.1 hd hy (k h p l e s m args below meth c C H locs lsA hR hX hS hl)
theorem go_irem {x y : Int32} {K : Option ζ} (hd : decode Y.2.1 pc = .ok (.irem, 1)) (h : dzI y K = some z) (k : K = some z → Go G Y σ0 σE rE (pc + 1) ls (iV (x - x / y * y) :: st) σ) : Go G Y σ0 σE rE pc ls (iV y :: iV x :: st) σ := by
  intro p l e s m args below meth c C H locs lsA hR hX hS hl
  unfold dzI at h
  by_cases hy : y = 0
  · rw [if_pos hy] at h; cases h
  · rw [if_neg hy] at h
    exact lv_irem C.1 C.2.1 hd hy (k h p l e s m args below meth c C H locs lsA hR hX hS hl)
theorem go_ldiv {x y : Int64} {K : Option ζ} (hd : decode Y.2.1 pc = .ok (.ldiv, 1)) (h : dzL y K = some z) (k : K = some z → Go G Y σ0 σE rE (pc + 1) ls (lV (x / y) :: st) σ) : Go G Y σ0 σE rE pc ls (lV y :: lV x :: st) σ := by
  intro p l e s m args below meth c C H locs lsA hR hX hS hl
  unfold dzL at h
  by_cases hy : y = 0
  · rw [if_pos hy] at h; cases h
  · rw [if_neg hy] at h
    exact lv_ldiv C.1 C.2.1 hd hy (k h p l e s m args below meth c C H locs lsA hR hX hS hl)
theorem go_lrem {x y : Int64} {K : Option ζ} (hd : decode Y.2.1 pc = .ok (.lrem, 1)) (h : dzL y K = some z) (k : K = some z → Go G Y σ0 σE rE (pc + 1) ls (lV (x - x / y * y) :: st) σ) : Go G Y σ0 σE rE pc ls (lV y :: lV x :: st) σ := by
  intro p l e s m args below meth c C H locs lsA hR hX hS hl
  unfold dzL at h
  by_cases hy : y = 0
  · rw [if_pos hy] at h; cases h
  · rw [if_neg hy] at h
    exact lv_lrem C.1 C.2.1 hd hy (k h p l e s m args below meth c C H locs lsA hR hX hS hl)
theorem go_ladd {x y : Int64} (hd : decode Y.2.1 pc = .ok (.ladd, 1)) (k : Go G Y σ0 σE rE (pc + 1) ls (lV (x + y) :: st) σ) : Go G Y σ0 σE rE pc ls (lV y :: lV x :: st) σ := by
  intro p l e s m args below meth c C H locs lsA hR hX hS hl
  exact lv_ladd C.1 C.2.1 hd (k p l e s m args below meth c C H locs lsA hR hX hS hl)
theorem go_lmul {x y : Int64} (hd : decode Y.2.1 pc = .ok (.lmul, 1)) (k : Go G Y σ0 σE rE (pc + 1) ls (lV (x * y) :: st) σ) : Go G Y σ0 σE rE pc ls (lV y :: lV x :: st) σ := by
  intro p l e s m args below meth c C H locs lsA hR hX hS hl
  exact lv_lmul C.1 C.2.1 hd (k p l e s m args below meth c C H locs lsA hR hX hS hl)
theorem go_lshl {x : Int64} {y : Int32} (hd : decode Y.2.1 pc = .ok (.lshl, 1)) (k : Go G Y σ0 σE rE (pc + 1) ls (lV (x <<< (y.toInt64 &&& 63)) :: st) σ) : Go G Y σ0 σE rE pc ls (iV y :: lV x :: st) σ := by
  intro p l e s m args below meth c C H locs lsA hR hX hS hl
  exact lv_lshl C.1 C.2.1 hd rfl (k p l e s m args below meth c C H locs lsA hR hX hS hl)
theorem go_lcmp {x y : Int64} (hd : decode Y.2.1 pc = .ok (.lcmp, 1)) (k : Go G Y σ0 σE rE (pc + 1) ls (iV (lg_cmp x y) :: st) σ) : Go G Y σ0 σE rE pc ls (lV y :: lV x :: st) σ := by
  intro p l e s m args below meth c C H locs lsA hR hX hS hl
  exact W.lcmp C.1 C.2.1 hd (k p l e s m args below meth c C H locs lsA hR hX hS hl)
theorem go_i2b {x : Int32} (hd : decode Y.2.1 pc = .ok (.i2b, 1)) (k : Go G Y σ0 σE rE (pc + 1) ls (iV (x.toInt8.toInt32) :: st) σ) : Go G Y σ0 σE rE pc ls (iV x :: st) σ := by
  intro p l e s m args below meth c C H locs lsA hR hX hS hl
  exact lv_i2b C.1 C.2.1 hd rfl (k p l e s m args below meth c C H locs lsA hR hX hS hl)
theorem go_i2c {x : Int32} (hd : decode Y.2.1 pc = .ok (.i2c, 1)) (k : Go G Y σ0 σE rE (pc + 1) ls (iV ((x.toUInt32 % 65536).toInt32) :: st) σ) : Go G Y σ0 σE rE pc ls (iV x :: st) σ := by
  intro p l e s m args below meth c C H locs lsA hR hX hS hl
  exact lv_i2c C.1 C.2.1 hd rfl (k p l e s m args below meth c C H locs lsA hR hX hS hl)
theorem go_i2l {x : Int32} (hd : decode Y.2.1 pc = .ok (.i2l, 1)) (k : Go G Y σ0 σE rE (pc + 1) ls (lV (x.toInt64) :: st) σ) : Go G Y σ0 σE rE pc ls (iV x :: st) σ := by
  intro p l e s m args below meth c C H locs lsA hR hX hS hl
  exact lv_i2l C.1 C.2.1 hd rfl (k p l e s m args below meth c C H locs lsA hR hX hS hl)
theorem go_l2i {x : Int64} (hd : decode Y.2.1 pc = .ok (.l2i, 1)) (k : Go G Y σ0 σE rE (pc + 1) ls (iV (x.toInt32) :: st) σ) : Go G Y σ0 σE rE pc ls (lV x :: st) σ := by
  intro p l e s m args below meth c C H locs lsA hR hX hS hl
  exact lv_l2i C.1 C.2.1 hd rfl (k p l e s m args below meth c C H locs lsA hR hX hS hl)
theorem go_dup {a : V3} (hd : decode Y.2.1 pc = .ok (.dup, 1)) (ha : vc a = 1) (k : Go G Y σ0 σE rE (pc + 1) ls (a :: a :: st) σ) : Go G Y σ0 σE rE pc ls (a :: st) σ := by
  intro p l e s m args below meth c C H locs lsA hR hX hS hl
  exact lv_dup C.1 C.2.1 hd ((vv_cat a).trans ha) (k p l e s m args below meth c C H locs lsA hR hX hS hl)
theorem go_dup_x1 {a b : V3} (hd : decode Y.2.1 pc = .ok (.dup_x1, 1)) (ha : vc a = 1) (hb : vc b = 1) (k : Go G Y σ0 σE rE (pc + 1) ls (a :: b :: a :: st) σ) : Go G Y σ0 σE rE pc ls (a :: b :: st) σ := by
  intro p l e s m args below meth c C H locs lsA hR hX hS hl
  exact lv_dup_x1 C.1 C.2.1 hd ((vv_cat a).trans ha) ((vv_cat b).trans hb) (k p l e s m args below meth c C H locs lsA hR hX hS hl)
theorem go_dup2 {a b : V3} (hd : decode Y.2.1 pc = .ok (.dup2, 1)) (ha : vc a = 1) (hb : vc b = 1) (k : Go G Y σ0 σE rE (pc + 1) ls (a :: b :: a :: b :: st) σ) : Go G Y σ0 σE rE pc ls (a :: b :: st) σ := by
  intro p l e s m args below meth c C H locs lsA hR hX hS hl
  exact lv_dup2_11 C.1 C.2.1 hd ((vv_cat a).trans ha) ((vv_cat b).trans hb) (k p l e s m args below meth c C H locs lsA hR hX hS hl)
theorem go_dup2l {a : V3} (hd : decode Y.2.1 pc = .ok (.dup2, 1)) (ha : vc a = 2) (k : Go G Y σ0 σE rE (pc + 1) ls (a :: a :: st) σ) : Go G Y σ0 σE rE pc ls (a :: st) σ := by
  intro p l e s m args below meth c C H locs lsA hR hX hS hl
  exact lv_dup2_2 C.1 C.2.1 hd ((vv_cat a).trans ha) (k p l e s m args below meth c C H locs lsA hR hX hS hl)
theorem go_pop {a : V3} (hd : decode Y.2.1 pc = .ok (.pop, 1)) (ha : vc a = 1) (k : Go G Y σ0 σE rE (pc + 1) ls (st) σ) : Go G Y σ0 σE rE pc ls (a :: st) σ := by
  intro p l e s m args below meth c C H locs lsA hR hX hS hl
  exact lv_pop C.1 C.2.1 hd ((vv_cat a).trans ha) (k p l e s m args below meth c C H locs lsA hR hX hS hl)
theorem go_goto {off : Int} (tgt : Nat) (hd : decode Y.2.1 pc = .ok (.goto off, 3)) (ht : (pc : Int) + off = (tgt : Int)) (k : Go G Y σ0 σE rE tgt ls (st) σ) : Go G Y σ0 σE rE pc ls (st) σ := by
  intro p l e s m args below meth c C H locs lsA hR hX hS hl
  exact lv_goto C.1 C.2.1 hd ht (k p l e s m args below meth c C H locs lsA hR hX hS hl)
theorem go_if_eq {x : Int32} {off : Int} (tgt : Nat) {A B : Option ζ} (hd : decode Y.2.1 pc = .ok (.ifCond .eq off, 3)) (ht : (pc : Int) + off = (tgt : Int)) (h : (if x = 0 then A else B) = some z) (k1 : A = some z → Go G Y σ0 σE rE tgt ls (st) σ) (k2 : B = some z → Go G Y σ0 σE rE (pc + 3) ls (st) σ) : Go G Y σ0 σE rE pc ls (iV x :: st) σ := by
  intro p l e s m args below meth c C H locs lsA hR hX hS hl
  exact lv_if_eq C.1 C.2.1 hd ht (fun hc => k1 (by rw [if_pos hc] at h; exact h) p l e s m args below meth c C H locs lsA hR hX hS hl) (fun hc => k2 (by rw [if_neg hc] at h; exact h) p l e s m args below meth c C H locs lsA hR hX hS hl)
theorem go_if_ne {x : Int32} {off : Int} (tgt : Nat) {A B : Option ζ} (hd : decode Y.2.1 pc = .ok (.ifCond .ne off, 3)) (ht : (pc : Int) + off = (tgt : Int)) (h : (if x = 0 then A else B) = some z) (k1 : A = some z → Go G Y σ0 σE rE (pc + 3) ls (st) σ) (k2 : B = some z → Go G Y σ0 σE rE tgt ls (st) σ) : Go G Y σ0 σE rE pc ls (iV x :: st) σ := by
  intro p l e s m args below meth c C H locs lsA hR hX hS hl
  exact lv_if_ne C.1 C.2.1 hd ht (fun hc => k2 (by rw [if_neg hc] at h; exact h) p l e s m args below meth c C H locs lsA hR hX hS hl) (fun hc => k1 (by rw [if_pos hc] at h; exact h) p l e s m args below meth c C H locs lsA hR hX hS hl)
theorem go_if_lt {x : Int32} {off : Int} (tgt : Nat) {A B : Option ζ} (hd : decode Y.2.1 pc = .ok (.ifCond .lt off, 3)) (ht : (pc : Int) + off = (tgt : Int)) (h : (if x < 0 then A else B) = some z) (k1 : A = some z → Go G Y σ0 σE rE tgt ls (st) σ) (k2 : B = some z → Go G Y σ0 σE rE (pc + 3) ls (st) σ) : Go G Y σ0 σE rE pc ls (iV x :: st) σ := by
  intro p l e s m args below meth c C H locs lsA hR hX hS hl
  exact lv_if_lt C.1 C.2.1 hd ht (fun hc => k1 (by rw [if_pos hc] at h; exact h) p l e s m args below meth c C H locs lsA hR hX hS hl) (fun hc => k2 (by rw [if_neg hc] at h; exact h) p l e s m args below meth c C H locs lsA hR hX hS hl)
theorem go_if_ge {x : Int32} {off : Int} (tgt : Nat) {A B : Option ζ} (hd : decode Y.2.1 pc = .ok (.ifCond .ge off, 3)) (ht : (pc : Int) + off = (tgt : Int)) (h : (if 0 ≤ x then A else B) = some z) (k1 : A = some z → Go G Y σ0 σE rE tgt ls (st) σ) (k2 : B = some z → Go G Y σ0 σE rE (pc + 3) ls (st) σ) : Go G Y σ0 σE rE pc ls (iV x :: st) σ := by
  intro p l e s m args below meth c C H locs lsA hR hX hS hl
  exact lv_if_ge C.1 C.2.1 hd ht (fun hc => k1 (by rw [if_pos hc] at h; exact h) p l e s m args below meth c C H locs lsA hR hX hS hl) (fun hc => k2 (by rw [if_neg hc] at h; exact h) p l e s m args below meth c C H locs lsA hR hX hS hl)
theorem go_if_gt {x : Int32} {off : Int} (tgt : Nat) {A B : Option ζ} (hd : decode Y.2.1 pc = .ok (.ifCond .gt off, 3)) (ht : (pc : Int) + off = (tgt : Int)) (h : (if 0 < x then A else B) = some z) (k1 : A = some z → Go G Y σ0 σE rE tgt ls (st) σ) (k2 : B = some z → Go G Y σ0 σE rE (pc + 3) ls (st) σ) : Go G Y σ0 σE rE pc ls (iV x :: st) σ := by
  intro p l e s m args below meth c C H locs lsA hR hX hS hl
  exact lv_if_gt C.1 C.2.1 hd ht (fun hc => k1 (by rw [if_pos hc] at h; exact h) p l e s m args below meth c C H locs lsA hR hX hS hl) (fun hc => k2 (by rw [if_neg hc] at h; exact h) p l e s m args below meth c C H locs lsA hR hX hS hl)
theorem go_if_le {x : Int32} {off : Int} (tgt : Nat) {A B : Option ζ} (hd : decode Y.2.1 pc = .ok (.ifCond .le off, 3)) (ht : (pc : Int) + off = (tgt : Int)) (h : (if x ≤ 0 then A else B) = some z) (k1 : A = some z → Go G Y σ0 σE rE tgt ls (st) σ) (k2 : B = some z → Go G Y σ0 σE rE (pc + 3) ls (st) σ) : Go G Y σ0 σE rE pc ls (iV x :: st) σ := by
  intro p l e s m args below meth c C H locs lsA hR hX hS hl
  exact lv_if_le C.1 C.2.1 hd ht (fun hc => k1 (by rw [if_pos hc] at h; exact h) p l e s m args below meth c C H locs lsA hR hX hS hl) (fun hc => k2 (by rw [if_neg hc] at h; exact h) p l e s m args below meth c C H locs lsA hR hX hS hl)
theorem go_icmp_eq {x y : Int32} {off : Int} (tgt : Nat) {A B : Option ζ} (hd : decode Y.2.1 pc = .ok (.if_icmp .eq off, 3)) (ht : (pc : Int) + off = (tgt : Int)) (h : (if x = y then A else B) = some z) (k1 : A = some z → Go G Y σ0 σE rE tgt ls (st) σ) (k2 : B = some z → Go G Y σ0 σE rE (pc + 3) ls (st) σ) : Go G Y σ0 σE rE pc ls (iV y :: iV x :: st) σ := by
  intro p l e s m args below meth c C H locs lsA hR hX hS hl
  exact lv_icmp_eq C.1 C.2.1 hd ht (fun hc => k1 (by rw [if_pos hc] at h; exact h) p l e s m args below meth c C H locs lsA hR hX hS hl) (fun hc => k2 (by rw [if_neg hc] at h; exact h) p l e s m args below meth c C H locs lsA hR hX hS hl)
theorem go_icmp_ne {x y : Int32} {off : Int} (tgt : Nat) {A B : Option ζ} (hd : decode Y.2.1 pc = .ok (.if_icmp .ne off, 3)) (ht : (pc : Int) + off = (tgt : Int)) (h : (if x = y then A else B) = some z) (k1 : A = some z → Go G Y σ0 σE rE (pc + 3) ls (st) σ) (k2 : B = some z → Go G Y σ0 σE rE tgt ls (st) σ) : Go G Y σ0 σE rE pc ls (iV y :: iV x :: st) σ := by
  intro p l e s m args below meth c C H locs lsA hR hX hS hl
  exact lv_icmp_ne C.1 C.2.1 hd ht (fun hc => k2 (by rw [if_neg hc] at h; exact h) p l e s m args below meth c C H locs lsA hR hX hS hl) (fun hc => k1 (by rw [if_pos hc] at h; exact h) p l e s m args below meth c C H locs lsA hR hX hS hl)
theorem go_icmp_lt {x y : Int32} {off : Int} (tgt : Nat) {A B : Option ζ} (hd : decode Y.2.1 pc = .ok (.if_icmp .lt off, 3)) (ht : (pc : Int) + off = (tgt : Int)) (h : (if x < y then A else B) = some z) (k1 : A = some z → Go G Y σ0 σE rE tgt ls (st) σ) (k2 : B = some z → Go G Y σ0 σE rE (pc + 3) ls (st) σ) : Go G Y σ0 σE rE pc ls (iV y :: iV x :: st) σ := by
  intro p l e s m args below meth c C H locs lsA hR hX hS hl
  exact lv_icmp_lt C.1 C.2.1 hd ht (fun hc => k1 (by rw [if_pos hc] at h; exact h) p l e s m args below meth c C H locs lsA hR hX hS hl) (fun hc => k2 (by rw [if_neg hc] at h; exact h) p l e s m args below meth c C H locs lsA hR hX hS hl)
theorem go_icmp_ge {x y : Int32} {off : Int} (tgt : Nat) {A B : Option ζ} (hd : decode Y.2.1 pc = .ok (.if_icmp .ge off, 3)) (ht : (pc : Int) + off = (tgt : Int)) (h : (if y ≤ x then A else B) = some z) (k1 : A = some z → Go G Y σ0 σE rE tgt ls (st) σ) (k2 : B = some z → Go G Y σ0 σE rE (pc + 3) ls (st) σ) : Go G Y σ0 σE rE pc ls (iV y :: iV x :: st) σ := by
  intro p l e s m args below meth c C H locs lsA hR hX hS hl
  exact lv_icmp_ge C.1 C.2.1 hd ht (fun hc => k1 (by rw [if_pos hc] at h; exact h) p l e s m args below meth c C H locs lsA hR hX hS hl) (fun hc => k2 (by rw [if_neg hc] at h; exact h) p l e s m args below meth c C H locs lsA hR hX hS hl)
theorem go_icmp_gt {x y : Int32} {off : Int} (tgt : Nat) {A B : Option ζ} (hd : decode Y.2.1 pc = .ok (.if_icmp .gt off, 3)) (ht : (pc : Int) + off = (tgt : Int)) (h : (if y < x then A else B) = some z) (k1 : A = some z → Go G Y σ0 σE rE tgt ls (st) σ) (k2 : B = some z → Go G Y σ0 σE rE (pc + 3) ls (st) σ) : Go G Y σ0 σE rE pc ls (iV y :: iV x :: st) σ := by
  intro p l e s m args below meth c C H locs lsA hR hX hS hl
  exact lv_icmp_gt C.1 C.2.1 hd ht (fun hc => k1 (by rw [if_pos hc] at h; exact h) p l e s m args below meth c C H locs lsA hR hX hS hl) (fun hc => k2 (by rw [if_neg hc] at h; exact h) p l e s m args below meth c C H locs lsA hR hX hS hl)
theorem go_icmp_le {x y : Int32} {off : Int} (tgt : Nat) {A B : Option ζ} (hd : decode Y.2.1 pc = .ok (.if_icmp .le off, 3)) (ht : (pc : Int) + off = (tgt : Int)) (h : (if x ≤ y then A else B) = some z) (k1 : A = some z → Go G Y σ0 σE rE tgt ls (st) σ) (k2 : B = some z → Go G Y σ0 σE rE (pc + 3) ls (st) σ) : Go G Y σ0 σE rE pc ls (iV y :: iV x :: st) σ := by
  intro p l e s m args below meth c C H locs lsA hR hX hS hl
  exact lv_icmp_le C.1 C.2.1 hd ht (fun hc => k1 (by rw [if_pos hc] at h; exact h) p l e s m args below meth c C H locs lsA hR hX hS hl) (fun hc => k2 (by rw [if_neg hc] at h; exact h) p l e s m args below meth c C H locs lsA hR hX hS hl)
theorem go_acmp_eq {x y : Option Nat} {off : Int} (tgt : Nat) {A B : Option ζ} (hd : decode Y.2.1 pc = .ok (.if_acmp .eq off, 3)) (ht : (pc : Int) + off = (tgt : Int)) (h : (if x = y then A else B) = some z) (k1 : A = some z → Go G Y σ0 σE rE tgt ls (st) σ) (k2 : B = some z → Go G Y σ0 σE rE (pc + 3) ls (st) σ) : Go G Y σ0 σE rE pc ls (rV y :: rV x :: st) σ := by
  intro p l e s m args below meth c C H locs lsA hR hX hS hl
  exact lv_acmp_eq C.1 C.2.1 hd ht (fun hc => k1 (by rw [if_pos hc] at h; exact h) p l e s m args below meth c C H locs lsA hR hX hS hl) (fun hc => k2 (by rw [if_neg hc] at h; exact h) p l e s m args below meth c C H locs lsA hR hX hS hl)
theorem go_acmp_ne {x y : Option Nat} {off : Int} (tgt : Nat) {A B : Option ζ} (hd : decode Y.2.1 pc = .ok (.if_acmp .ne off, 3)) (ht : (pc : Int) + off = (tgt : Int)) (h : (if x = y then A else B) = some z) (k1 : A = some z → Go G Y σ0 σE rE (pc + 3) ls (st) σ) (k2 : B = some z → Go G Y σ0 σE rE tgt ls (st) σ) : Go G Y σ0 σE rE pc ls (rV y :: rV x :: st) σ := by
  intro p l e s m args below meth c C H locs lsA hR hX hS hl
  exact lv_acmp_ne C.1 C.2.1 hd ht (fun hc => k2 (by rw [if_neg hc] at h; exact h) p l e s m args below meth c C H locs lsA hR hX hS hl) (fun hc => k1 (by rw [if_pos hc] at h; exact h) p l e s m args below meth c C H locs lsA hR hX hS hl)
theorem go_ifnull {x : Option Nat} {off : Int} (tgt : Nat) {A B : Option ζ} (hd : decode Y.2.1 pc = .ok (.ifnull off, 3)) (ht : (pc : Int) + off = (tgt : Int)) (h : (if x = none then A else B) = some z) (k1 : A = some z → Go G Y σ0 σE rE tgt ls (st) σ) (k2 : B = some z → Go G Y σ0 σE rE (pc + 3) ls (st) σ) : Go G Y σ0 σE rE pc ls (rV x :: st) σ := by
  intro p l e s m args below meth c C H locs lsA hR hX hS hl
  cases x with
  | none => exact lv_ifnullN C.1 C.2.1 hd ht (k1 (by rw [if_pos rfl] at h; exact h) p l e s m args below meth c C H locs lsA hR hX hS hl)
  | some a => exact lv_ifnull C.1 C.2.1 hd (k2 (by rw [if_neg (fun q => by cases q)] at h; exact h) p l e s m args below meth c C H locs lsA hR hX hS hl)
theorem go_ifnonnull {x : Option Nat} {off : Int} (tgt : Nat) {A B : Option ζ} (hd : decode Y.2.1 pc = .ok (.ifnonnull off, 3)) (ht : (pc : Int) + off = (tgt : Int)) (h : (if x = none then A else B) = some z) (k1 : A = some z → Go G Y σ0 σE rE (pc + 3) ls (st) σ) (k2 : B = some z → Go G Y σ0 σE rE tgt ls (st) σ) : Go G Y σ0 σE rE pc ls (rV x :: st) σ := by
  intro p l e s m args below meth c C H locs lsA hR hX hS hl
  cases x with
  | none => exact lv_ifnonnullN C.1 C.2.1 hd (k1 (by rw [if_pos rfl] at h; exact h) p l e s m args below meth c C H locs lsA hR hX hS hl)
  | some a => exact lv_ifnonnull C.1 C.2.1 hd ht (k2 (by rw [if_neg (fun q => by cases q)] at h; exact h) p l e s m args below meth c C H locs lsA hR hX hS hl)
theorem go_tIn {dflt lo hi : Int} {offs : Array Int} {len : Nat} {x : Int32} {off : Int} (tgt : Nat) (hd : decode Y.2.1 pc = .ok (.tableswitch dflt lo hi offs, len)) (h1 : ¬ x.toInt < lo) (h2 : ¬ hi < x.toInt) (ho : offs[(x.toInt - lo).toNat]? = some off) (ht : (pc : Int) + off = (tgt : Int)) (k : Go G Y σ0 σE rE tgt ls (st) σ) : Go G Y σ0 σE rE pc ls (iV x :: st) σ := by
  intro p l e s m args below meth c C H locs lsA hR hX hS hl
  exact lv_tableIn C.1 C.2.1 hd h1 h2 ho ht (k p l e s m args below meth c C H locs lsA hR hX hS hl)
theorem tab_out {x : Int32} {lo hi : Int} (n : Nat) (hn : hi < lo + n) (h : ∀ i : Nat, i < n → ¬ x = Int32.ofInt (lo + i)) : x.toInt < lo ∨ hi < x.toInt := by
  by_cases h1 : x.toInt < lo
  · exact Or.inl h1
  by_cases h2 : hi < x.toInt
  · exact Or.inr h2
  refine absurd ?_ (h (x.toInt - lo).toNat (by omega))
  have e : lo + ((x.toInt - lo).toNat : Int) = x.toInt := by omega
  rw [e]
  exact (Int32.ofInt_toInt x).symm
theorem go_tOut {dflt lo hi : Int} {offs : Array Int} {len : Nat} {x : Int32} (tgt : Nat) (n : Nat) (hd : decode Y.2.1 pc = .ok (.tableswitch dflt lo hi offs, len)) (hn : hi < lo + n) (hx : ∀ i : Nat, i < n → ¬ x = Int32.ofInt (lo + i)) (ht : (pc : Int) + dflt = (tgt : Int)) (k : Go G Y σ0 σE rE tgt ls (st) σ) : Go G Y σ0 σE rE pc ls (iV x :: st) σ := by
  intro p l e s m args below meth c C H locs lsA hR hX hS hl
  exact lv_tableOut C.1 C.2.1 hd (tab_out n hn hx) ht (k p l e s m args below meth c C H locs lsA hR hX hS hl)
theorem go_lsw {dflt : Int} {ps : Array (Int × Int)} {len : Nat} {x : Int32} {off : Int} (tgt : Nat) (hd : decode Y.2.1 pc = .ok (.lookupswitch dflt ps, len)) (hp : (ps.toList.zip (ps.toList.drop 1)).all (fun (a, next) => a.1 < next.1) = true) (ho : Op.lookupswitch.offset ps.toList dflt x.toInt = off) (ht : (pc : Int) + off = (tgt : Int)) (k : Go G Y σ0 σE rE tgt ls (st) σ) : Go G Y σ0 σE rE pc ls (iV x :: st) σ := by
  intro p l e s m args below meth c C H locs lsA hR hX hS hl
  exact lv_lookup C.1 C.2.1 hd hp ho ht (k p l e s m args below meth c C H locs lsA hR hX hS hl)
/-- fewer locals -/
theorem go_sub (ks : List Nat) {ls2 : List (Nat × V3)} (h : ks.filterMap (fun k => ls[k]?) = ls2) (k : Go G Y σ0 σE rE pc ls2 st σ) : Go G Y σ0 σE rE pc ls st σ := by
  intro p l e s m args below meth c C H locs lsA hR hX hS hl
  refine k p l e s m args below meth c C H locs lsA hR hX hS (lv_sub hl ks ?_)
  subst h
  simp only [lv_pick, mL, List.map_filterMap, List.getElem?_map]
end RW
