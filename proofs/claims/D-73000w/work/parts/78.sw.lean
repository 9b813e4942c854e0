/-! SWINGS -/
set_option maxRecDepth 100000
section
variable {x mo : Nat} {sx sm : St} {w : Nat → Nat → Nat} {R S T : Nat → Nat}
theorem itN_sh (g : Nat → Nat) (c : Nat) : ∀ d k n, itN (fun m n => n + g m) d k (n + c) = itN (fun m n => n + g m) d k n + c := by
  intro d
  induction d with
  | zero => intro k n; rfl
  | succ d ih =>
    intro k n
    show itN _ d (k + 1) (n + c + g k) = itN _ d (k + 1) (n + g k) + c
    rw [show n + c + g k = n + g k + c by omega]
    exact ih (k + 1) (n + g k)
theorem itN_one (g h : Nat → Nat) (q c : Nat) (h1 : h q = g q + c) (h2 : ∀ m, m ≠ q → h m = g m) : ∀ d k n, k ≤ q → q < k + d → itN (fun m n => n + h m) d k n = itN (fun m n => n + g m) d k n + c := by
  intro d
  induction d with
  | zero => intro k n a b; omega
  | succ d ih =>
    intro k n a b
    show itN _ d (k + 1) (n + h k) = itN _ d (k + 1) (n + g k) + c
    by_cases e : k = q
    · subst e
      rw [h1, ← Nat.add_assoc, itN_congr (g := fun m n => n + g m) d (k + 1) _ (fun j b hj _ => by rw [h2 j (by omega)])]
      exact itN_sh g c d (k + 1) (n + g k)
    · rw [h2 k e]
      exact ih (k + 1) _ (by omega) (by omega)
theorem eyes_or {R E : Nat → Nat} {v k : Nat} (hk : k < R 3) (hv : v.testBit k = false) : eyesS R E (v ||| 2 ^ k) = eyesS R E v + E k := by
  refine itN_one (fun m => b1 (v.testBit m) * E m) (fun m => b1 ((v ||| 2 ^ k).testBit m) * E m) k (E k) ?_ (fun m hm => ?_) (R 3) 0 0 (Nat.zero_le _) (by omega)
  · show b1 ((v ||| 2 ^ k).testBit k) * E k = b1 (v.testBit k) * E k + E k
    rw [Nat.testBit_or, Nat.testBit_two_pow_self, hv]
    simp [b1]
  · show b1 ((v ||| 2 ^ k).testBit m) * E m = b1 (v.testBit m) * E m
    rw [Nat.testBit_or, Nat.testBit_two_pow_of_ne (Ne.symm hm), Bool.or_false]
def swF (R : Nat → Nat) (k rest v t : Nat) : Nat := if v &&& (rest ^^^ 4294967295) = 0 ∧ eyesS R (eyP R none) v < 6 ∧ 6 ≤ eyesS R (eyP R none) v + eyP R none k then t + 1 else t
def maF (rest v t : Nat) : Nat := if v &&& (rest ^^^ 4294967295) = 0 then t + 1 else t
theorem many_2 : ∀ r, r < 64 → itN (maF r) (r + 1) 0 0 = 2 ^ onesS r := by decide +kernel
theorem swF_le {k rest v t : Nat} (h : t ≤ v) : swF R k rest v t ≤ v + 1 := by
  unfold swF
  split <;> omega
theorem rest_x : ∀ a, a < 64 → ∀ k, k < 6 → (a.testBit k = true → a ^^^ 2 ^ k < 64 ∧ (a ^^^ 2 ^ k).testBit k = false ∧ a ^^^ 2 ^ k ≤ a ∧ nI a &&& (((1 : Int32) <<< (nI k &&& 31)) ^^^ (-1)) = nI (a ^^^ 2 ^ k)) := by decide +kernel
theorem sub_bit : ∀ v, v < 64 → ∀ r, r < 64 → v &&& (r ^^^ 4294967295) = 0 → ∀ k, k < 6 → r.testBit k = false → v.testBit k = false := by decide +kernel
end
