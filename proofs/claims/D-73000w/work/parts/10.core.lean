/-! CORE: an abstract heap St; what the machine's heap must hold (HR); contracts (Mt); a judgement over a method's code (Go) -/
set_option maxRecDepth 100000
/-- the abstract heap: (base, size, cells left, slots left, constants), kinds, lengths, int fields, ref fields, int arrays, long arrays, ref arrays -/
abbrev stN : Type := Nat × Nat × Nat × Nat × (Nat → Option Nat)
abbrev stF : Type := (Nat → Nat) × (Nat → Nat) × (Nat → Nat → Int32) × (Nat → Nat → Option Nat) × (Nat → Nat → Int32) × (Nat → Nat → Int64) × (Nat → Nat → Option Nat)
def St : Type := stN × stF
def mkSt (n : stN) (ob ln : Nat → Nat) (fi : Nat → Nat → Int32) (fr : Nat → Nat → Option Nat) (ai : Nat → Nat → Int32) (al : Nat → Nat → Int64) (ar : Nat → Nat → Option Nat) : St := (n, ob, ln, fi, fr, ai, al, ar)
def St.nn (σ : St) : stN := Prod.fst σ
def St.ff (σ : St) : stF := Prod.snd σ
def St.lo (σ : St) : Nat := σ.nn.1
def St.sz (σ : St) : Nat := σ.nn.2.1
def St.rc (σ : St) : Nat := σ.nn.2.2.1
def St.rs (σ : St) : Nat := σ.nn.2.2.2.1
def St.ks (σ : St) : Nat → Option Nat := σ.nn.2.2.2.2
def St.ob (σ : St) : Nat → Nat := σ.ff.1
def St.ln (σ : St) : Nat → Nat := σ.ff.2.1
def St.fi (σ : St) : Nat → Nat → Int32 := σ.ff.2.2.1
def St.fr (σ : St) : Nat → Nat → Option Nat := σ.ff.2.2.2.1
def St.ai (σ : St) : Nat → Nat → Int32 := σ.ff.2.2.2.2.1
def St.al (σ : St) : Nat → Nat → Int64 := σ.ff.2.2.2.2.2.1
def St.ar (σ : St) : Nat → Nat → Option Nat := σ.ff.2.2.2.2.2.2
/-- one place of a table of functions is set; one row is set -/
def up2 {α : Type} (h : Nat → Nat → α) (f a : Nat) (v : α) : Nat → Nat → α := fun g b => if g = f ∧ b = a then v else h g b
def up1 {α : Type} (h : Nat → α) (a : Nat) (v : α) : Nat → α := fun b => if b = a then v else h b
def St.sI (σ : St) (f a : Nat) (v : Int32) : St := mkSt σ.nn σ.ob σ.ln (up2 σ.fi f a v) σ.fr σ.ai σ.al σ.ar
def St.sR (σ : St) (f a : Nat) (v : Option Nat) : St := mkSt σ.nn σ.ob σ.ln σ.fi (up2 σ.fr f a v) σ.ai σ.al σ.ar
def St.aI (σ : St) (a : Nat) (g : Nat → Int32) : St := mkSt σ.nn σ.ob σ.ln σ.fi σ.fr (up1 σ.ai a g) σ.al σ.ar
def St.aL (σ : St) (a : Nat) (g : Nat → Int64) : St := mkSt σ.nn σ.ob σ.ln σ.fi σ.fr σ.ai (up1 σ.al a g) σ.ar
def St.aR (σ : St) (a : Nat) (g : Nat → Option Nat) : St := mkSt σ.nn σ.ob σ.ln σ.fi σ.fr σ.ai σ.al (up1 σ.ar a g)
/-- a new object of kind c with n fields; a new array of kind c and length n -/
def St.nO (σ : St) (c n : Nat) : St := mkSt (σ.lo, σ.sz + 1, σ.rc - 1, σ.rs - n, σ.ks) (up1 σ.ob σ.sz c) σ.ln (fun f b => if b = σ.sz then 0 else σ.fi f b) (fun f b => if b = σ.sz then none else σ.fr f b) σ.ai σ.al σ.ar
def St.nA (σ : St) (c n : Nat) : St := mkSt (σ.lo, σ.sz + 1, σ.rc - 1, σ.rs - n, σ.ks) (up1 σ.ob σ.sz c) (up1 σ.ln σ.sz n) σ.fi σ.fr (up1 σ.ai σ.sz fun _ => 0) (up1 σ.al σ.sz fun _ => 0) (up1 σ.ar σ.sz fun _ => none)
/-- one place of an array's contents is set -/
def upA {α : Type} (f : Nat → α) (k : Nat) (v : α) : Nat → α := fun j => if j = k then v else f j
/-! ## the shallow words -/
section SH
variable {α β : Type}
/-- not null -/
def xN (r : Option Nat) (k : Nat → Option α) : Option α := match r with
  | none => none
  | some b => k b
def bd (x : Option (St × β)) (k : St → β → Option α) : Option α := match x with
  | none => none
  | some q => k q.1 q.2
def bp (x : Option β) (k : β → Option α) : Option α := match x with
  | none => none
  | some q => k q
def okZ (v : Int32) : Bool := v == 0 || v == 1
def okB (v : Int32) : Bool := v.toInt8.toInt32 == v
def okC (v : Int32) : Bool := (v.toUInt32 % 65536).toInt32 == v
/-- an index within -/
def inB (i : Int32) (n : Nat) : Bool := !(decide (i < 0) || decide (n ≤ i.toNatClampNeg))
theorem inB_in {i : Int32} {n : Nat} (h : inB i n = true) : vp_in i n := by
  simpa [inB, vp_in] using h
theorem in_inB {i : Int32} {n : Nat} (h : vp_in i n) : inB i n = true := by
  simpa [inB, vp_in] using h
/-- reads and writes of fields: int, ref -/
def gI (σ : St) (F : Nat) (r : Option Nat) (k : Int32 → Option α) : Option α := xN r fun a => if hasF fidT F (σ.ob a) then k (σ.fi F a) else none
def gR (σ : St) (F : Nat) (r : Option Nat) (k : Option Nat → Option α) : Option α := xN r fun a => if hasF fidT F (σ.ob a) then k (σ.fr F a) else none
def pI (σ : St) (F : Nat) (r : Option Nat) (v : Int32) (k : St → Option α) : Option α := xN r fun a => if hasF fidT F (σ.ob a) && decide (σ.lo ≤ a) then k (σ.sI F a v) else none
def pR (σ : St) (F : Nat) (r : Option Nat) (v : Option Nat) (k : St → Option α) : Option α := xN r fun a => if hasF fidT F (σ.ob a) && decide (σ.lo ≤ a) then k (σ.sR F a v) else none
/-- an array's length; reads and writes of arrays: c its kind -/
def aN (σ : St) (r : Option Nat) (k : Int32 → Option α) : Option α := xN r fun a => if decide (1 ≤ σ.ob a) && decide (σ.ob a ≤ 4) then k (nI (σ.ln a)) else none
def lI (σ : St) (c : Nat) (r : Option Nat) (i : Int32) (k : Int32 → Option α) : Option α := xN r fun a => if decide (σ.ob a = c) && inB i (σ.ln a) then k (σ.ai a i.toNatClampNeg) else none
def lL (σ : St) (r : Option Nat) (i : Int32) (k : Int64 → Option α) : Option α := xN r fun a => if decide (σ.ob a = 3) && inB i (σ.ln a) then k (σ.al a i.toNatClampNeg) else none
def lR (σ : St) (r : Option Nat) (i : Int32) (k : Option Nat → Option α) : Option α := xN r fun a => if decide (σ.ob a = 4) && inB i (σ.ln a) then k (σ.ar a i.toNatClampNeg) else none
def tI (σ : St) (r : Option Nat) (i x : Int32) (k : St → Option α) : Option α := xN r fun a => if (decide (σ.ob a = 1) && inB i (σ.ln a)) && decide (σ.lo ≤ a) then k (σ.aI a (upA (σ.ai a) i.toNatClampNeg x)) else none
def tB (σ : St) (r : Option Nat) (i x : Int32) (k : St → Option α) : Option α := xN r fun a => if (decide (σ.ob a = 2) && inB i (σ.ln a)) && decide (σ.lo ≤ a) then k (σ.aI a (upA (σ.ai a) i.toNatClampNeg x.toInt8.toInt32)) else none
def tL (σ : St) (r : Option Nat) (i : Int32) (x : Int64) (k : St → Option α) : Option α := xN r fun a => if (decide (σ.ob a = 3) && inB i (σ.ln a)) && decide (σ.lo ≤ a) then k (σ.aL a (upA (σ.al a) i.toNatClampNeg x)) else none
/-- what may lie in an array of references: null, an object of ours -/
def okR (σ : St) (x : Option Nat) : Bool := match x with
  | none => true
  | some b => decide (5 ≤ σ.ob b) && decide (σ.ob b < 22)
def tR (σ : St) (r : Option Nat) (i : Int32) (x : Option Nat) (k : St → Option α) : Option α := xN r fun a => if (decide (σ.ob a = 4) && inB i (σ.ln a)) && (decide (σ.lo ≤ a) && okR σ x) then k (σ.aR a (upA (σ.ar a) i.toNatClampNeg x)) else none
def nwO (σ : St) (c n : Nat) (k : St → Nat → Option α) : Option α := if decide (1 ≤ σ.rc) && decide (n ≤ σ.rs) then k (σ.nO c n) σ.sz else none
def nwA (σ : St) (c : Nat) (n : Int32) (k : St → Nat → Option α) : Option α := if inB n 60000000 && (decide (1 ≤ σ.rc) && decide (n.toNatClampNeg ≤ σ.rs)) then k (σ.nA c n.toNatClampNeg) σ.sz else none
/-- arraycopy of ints or bytes, of refs -/
def cpF (f g : Nat → α) (sp dp n : Nat) : Nat → α := fun k => if dp ≤ k ∧ k < dp + n then f (sp + (k - dp)) else g k
def cpOK (σ : St) (c a b : Nat) (sp dp n : Int32) : Bool := ((decide (σ.ob a = c) && decide (σ.ob b = c)) && ((!(decide (sp < 0)) && !(decide (dp < 0))) && !(decide (n < 0)))) && ((decide (sp.toNatClampNeg + n.toNatClampNeg ≤ σ.ln a) && decide (dp.toNatClampNeg + n.toNatClampNeg ≤ σ.ln b)) && decide (σ.lo ≤ b))
def cpI (σ : St) (c : Nat) (r : Option Nat) (sp : Int32) (r2 : Option Nat) (dp n : Int32) (k : St → Option α) : Option α := xN r fun a => xN r2 fun b =>
  if cpOK σ c a b sp dp n then k (σ.aI b (cpF (σ.ai a) (σ.ai b) sp.toNatClampNeg dp.toNatClampNeg n.toNatClampNeg)) else none
def cpR (σ : St) (r : Option Nat) (sp : Int32) (r2 : Option Nat) (dp n : Int32) (k : St → Option α) : Option α := xN r fun a => xN r2 fun b =>
  if cpOK σ 4 a b sp dp n && ((List.range n.toNatClampNeg).all fun i => okR σ (σ.ar a (sp.toNatClampNeg + i))) then k (σ.aR b (cpF (σ.ar a) (σ.ar b) sp.toNatClampNeg dp.toNatClampNeg n.toNatClampNeg)) else none
/-- the receiver's kind -/
def iv (σ : St) (c : Nat) (r : Option Nat) (k : Nat → Option α) : Option α := xN r fun a => if decide (σ.ob a = c) then k a else none
/-- a cast to one of the kinds cs -/
def ck (σ : St) (cs : List Nat) (r : Option Nat) (k : Option α) : Option α := xN r fun a => if cs.contains (σ.ob a) then k else none
def dzI (y : Int32) (k : Option α) : Option α := if y = 0 then none else k
def dzL (y : Int64) (k : Option α) : Option α := if y = 0 then none else k
/-- a check -/
def ok (b : Bool) (k : Option α) : Option α := if b then k else none
end SH
/-! ## the machine's side -/
abbrev gG : Type := (Nat → ClassId) × (Nat → Nat → Nat) × (Nat → ClassId)
def arrT : List FieldType := [.int, .byte, .long, .object "java/lang/Object"]
def elV (σ : St) (c a j : Nat) : Value := if c ≤ 2 then .int (σ.ai a j) else if c = 3 then .long (σ.al a j) else va_rf (σ.ar a j)
def fV (σ : St) (F a : Nat) : Value := if 1000 ≤ F then va_rf (σ.fr F a) else .int (σ.fi F a)
def vmok (lo a : Nat) (cell : Cell) : Prop := cell.vm = .none ∨ (a < lo ∧ cell.vm ≠ .unknown ∧ cell.vm.isStatics = false)
/-- what the machine's heap holds at a -/
def cellA (G : gG) (σ : St) (a k : Nat) (H : Heap) : Prop := ∃ cell : Cell, H[a]? = some cell ∧ cell.cls = G.2.2 k ∧ vmok σ.lo a cell ∧ cell.slots.size = σ.ln a ∧ (∀ j : Nat, j < σ.ln a → cell.slots[j]? = some (elV σ (k + 1) a j)) ∧ (k = 1 → ∀ j : Nat, j < σ.ln a → okB (σ.ai a j) = true)
def cellO (G : gG) (σ : St) (a c N : Nat) (H : Heap) : Prop := ∃ cell : Cell, H[a]? = some cell ∧ cell.cls = G.1 c ∧ vmok σ.lo a cell ∧ ∀ k : Nat, k < N → cell.slots[G.2.1 c k]? = some (fV σ ((fidT (c + 5)).getD k 0) a)
def cellAt (G : gG) (σ : St) (a : Nat) (H : Heap) : Prop :=
  (∀ (k : Nat) (ty : FieldType), arrT[k]? = some ty → σ.ob a = k + 1 → cellA G σ a k H) ∧
  (∀ (c : Nat) (q : vw_C), clG[c]? = some q → σ.ob a = c + 5 → cellO G σ a c q.2.2 H) ∧
  (σ.ob a ≠ 0 → a < H.size)
def HR (G : gG) (σ : St) (H : Heap) : Prop := H.size = σ.sz ∧ σ.lo ≤ σ.sz ∧ ∀ a, cellAt G σ a H
def Fre (σ : St) (a : Nat) : Prop := (σ.lo ≤ a ∧ σ.ob a ≠ 0) ∨ σ.sz ≤ a
/-- a later heap -/
def Ex (σ τ : St) : Prop := τ.lo = σ.lo ∧ τ.ks = σ.ks ∧ σ.sz ≤ τ.sz ∧ τ.rc + τ.sz = σ.rc + σ.sz ∧ τ.rs ≤ σ.rs ∧ ∀ a, τ.ob a ≠ 0 → σ.ob a ≠ 0 ∨ σ.sz ≤ a
theorem Ex.rf (σ : St) : Ex σ σ := ⟨rfl, rfl, Nat.le_refl _, rfl, Nat.le_refl _, fun _ h => Or.inl h⟩
theorem Ex.tr {σ τ υ : St} (h : Ex σ τ) (k : Ex τ υ) : Ex σ υ := by
  obtain ⟨h1, h2, h3, h4, h5, h6⟩ := h
  obtain ⟨k1, k2, k3, k4, k5, k6⟩ := k
  refine ⟨k1.trans h1, k2.trans h2, by omega, by omega, by omega, fun a ha => ?_⟩
  rcases k6 a ha with q | q
  · exact h6 a q
  · exact Or.inr (by omega)
theorem Ex.fre {σ τ : St} (h : Ex σ τ) {a : Nat} (ha : Fre τ a) : Fre σ a := by
  obtain ⟨h1, h2, h3, h4, h5, h6⟩ := h
  rcases ha with ⟨q1, q2⟩ | q
  · rcases h6 a q2 with r | r
    · exact Or.inl ⟨by rw [← h1]; exact q1, r⟩
    · exact Or.inr r
  · exact Or.inr (by omega)
/-- AbstractStringBuilder's private ensureCapacityInternal -/
def eciY : MethodName := ⟨"java/lang/AbstractStringBuilde\x72", "ensureCapacityInternal", "(I)V"⟩
/-- what the tables say, all through a run -/
def KT (G : gG) (σ : St) (s : State) : Prop :=
  (∀ (c : Nat) (q : vw_C), clG[c]? = some q → u_Kn s q.1 q.2.1 q.2.2 (G.1 c) (G.2.1 c)) ∧
  (∀ (k : Nat) (ty : FieldType), arrT[k]? = some ty → ArrOfT s (G.2.2 k) ty ∧ va_RA s (G.2.2 k) ty) ∧
  (∀ q ∈ castU, va_Nw (.castable q.1 q.2) s) ∧
  (∀ q ∈ strU, ∃ a, σ.ks q.2.2.2 = some a ∧ vk_R q.1 q.2.1 q.2.2.1 a s) ∧
  va_AO "java/lang/Object" s ∧
  (∀ q ∈ nestM, va_Nw (.methodLinkNest q.1 q.2.1 q.2.2.1 q.2.2.2) s) ∧
  (∀ q ∈ nestF, va_Nw (.fieldLinkNest q.1 q.2.1 q.2.2.1 q.2.2.2.1 q.2.2.2.2.1 q.2.2.2.2.2) s) ∧
  (∃ mi, σ.ks 70 = some mi ∧ va_Mi "[Ljava/lang/Object;" mi s) ∧ va_Dc s ∧
  (Cond.selects "java/lang/StringBuilde\x72" eciY eciY).before #[] s = true
def KZ (σ : St) (s : State) (H : Heap) : Prop :=
  (∀ q ∈ statR, va_Z q.1 q.2.1 q.2.2.1 (va_rf (σ.ks q.2.2.2)) (fun a => σ.lo ≤ a) s H) ∧
  (∀ q ∈ statI, va_Z q.1 q.2.1 q.2.2.1 (.int q.2.2.2) (fun a => σ.lo ≤ a) s H)
theorem KT.warm {G : gG} {σ : St} {s U : State} (hW : s.WarmedH U.vm) (h : KT G σ s) : KT G σ U :=
  ⟨fun c q hq => u_Kn_moved hW.alike (h.1 c q hq), fun k ty hk => ⟨arrOfT_moved hW.alike (h.2.1 k ty hk).1, (h.2.1 k ty hk).2.moved hW.alike⟩, fun q hq => va_Nw.warmC hW (h.2.2.1 q hq),
    fun q hq => by obtain ⟨a, h1, h2⟩ := h.2.2.2.1 q hq; exact ⟨a, h1, vk_R.warm hW h2⟩, va_AO.moved hW.alike h.2.2.2.2.1, fun q hq => va_Nw.warmM hW (h.2.2.2.2.2.1 q hq), fun q hq => va_Nw.warmF hW (h.2.2.2.2.2.2.1 q hq), by obtain ⟨mi, h1, h2⟩ := h.2.2.2.2.2.2.2.1; exact ⟨mi, h1, va_Mi.moved hW.alike h2⟩, va_Dc.moved hW.alike h.2.2.2.2.2.2.2.2.1, word_at hW (Or.inl rfl) h.2.2.2.2.2.2.2.2.2⟩
theorem KT.ks {G : gG} {σ τ : St} {s : State} (h : KT G σ s) (hk : τ.ks = σ.ks) : KT G τ s :=
  ⟨h.1, h.2.1, h.2.2.1, fun q hq => by rw [hk]; exact h.2.2.2.1 q hq, h.2.2.2.2.1, h.2.2.2.2.2.1, h.2.2.2.2.2.2.1, by rw [hk]; exact h.2.2.2.2.2.2.2.1, h.2.2.2.2.2.2.2.2⟩
theorem KZ.moved {σ : St} {s U : State} {H : Heap} (hW : s.vm.Alike U.vm) (h : KZ σ s H) : KZ σ U H :=
  ⟨fun q hq => va_Z.moved hW (h.1 q hq), fun q hq => va_Z.moved hW (h.2 q hq)⟩
theorem KZ.kept {σ : St} {s : State} {H H1 : Heap} (h : KZ σ s H) (hq : ∀ a : Nat, a < H.size → ¬ σ.lo ≤ a → H1[a]? = H[a]?) : KZ σ s H1 :=
  ⟨fun q hp => va_Z.kept (h.1 q hp) hq, fun q hp => va_Z.kept (h.2 q hp) hq⟩
theorem KZ.to {σ τ : St} {s : State} {H : Heap} (h : KZ σ s H) (h1 : τ.lo = σ.lo) (h2 : τ.ks = σ.ks) : KZ τ s H :=
  ⟨fun q hp => by rw [h1, h2]; exact h.1 q hp, fun q hp => by rw [h1]; exact h.2 q hp⟩
/-- values by their kind: int, long, reference -/
abbrev V3 : Type := Int32 ⊕ (Int64 ⊕ Option Nat)
abbrev iV (x : Int32) : V3 := .inl x
abbrev lV (x : Int64) : V3 := .inr (.inl x)
abbrev rV (r : Option Nat) : V3 := .inr (.inr r)
def vv (v : V3) : Value := match v with
  | .inl x => .int x
  | .inr (.inl x) => .long x
  | .inr (.inr r) => va_rf r
def vc (v : V3) : Nat := match v with
  | .inl _ => 1
  | .inr (.inl _) => 2
  | .inr (.inr _) => 1
theorem vv_cat (v : V3) : (vv v).category = vc v := by
  rcases v with x | x | r
  · rfl
  · rfl
  · cases r <;> rfl
def mL (ls : List (Nat × V3)) : List (Nat × Value) := ls.map fun q => (q.1, vv q.2)
def mS (st : List V3) : List Value := st.map vv
/-- a local is set -/
def lput (i : Nat) (v : V3) (ls : List (Nat × V3)) : List (Nat × V3) := (i, v) :: ls.filter fun q => !(q.1 == i) && !(q.1 + 1 == i && vc q.2 == 2)
def lput2 (i : Nat) (v : V3) (ls : List (Nat × V3)) : List (Nat × V3) := (i, v) :: ls.filter fun q => !(q.1 == i) && (!(q.1 == i + 1) && !(q.1 + 1 == i && vc q.2 == 2))
theorem mL_filter (f : Nat × V3 → Bool) (g : Nat × Value → Bool) (h : ∀ q, g (q.1, vv q.2) = f q) (ls : List (Nat × V3)) : (mL ls).filter g = mL (ls.filter f) := by
  induction ls with
  | nil => rfl
  | cons q l ih =>
    show ((q.1, vv q.2) :: mL l).filter g = mL ((q :: l).filter f)
    rw [List.filter_cons, List.filter_cons, h q]
    cases f q
    · simpa using ih
    · simp only [if_true, ih]; rfl
theorem mL_lput (i : Nat) (v : V3) (ls : List (Nat × V3)) : (i, vv v) :: (mL ls).filter (fun q => !(q.1 == i) && !(q.1 + 1 == i && q.2.category == 2)) = mL (lput i v ls) := by
  rw [mL_filter (fun q => !(q.1 == i) && !(q.1 + 1 == i && vc q.2 == 2)) _ (fun q => by simp only [vv_cat])]
  rfl
theorem mL_lput2 (i : Nat) (v : V3) (ls : List (Nat × V3)) : (i, vv v) :: (mL ls).filter (fun q => !(q.1 == i) && (!(q.1 == i + 1) && !(q.1 + 1 == i && q.2.category == 2))) = mL (lput2 i v ls) := by
  rw [mL_filter (fun q => !(q.1 == i) && (!(q.1 == i + 1) && !(q.1 + 1 == i && vc q.2 == 2))) _ (fun q => by simp only [vv_cat])]
  rfl
theorem mL_at {ls : List (Nat × V3)} {k i : Nat} {v : V3} (h : ls[k]? = some (i, v)) : (mL ls)[k]? = some (i, vv v) := by
  simp [mL, h]
def largs (k : Nat) (vs : List V3) : List (Nat × V3) := match vs with
  | [] => []
  | v :: l => (k, v) :: largs (k + vc v) l
/-- a method: class, code, locals, what it returns, frames and words that it nests, whether it is a constructor -/
abbrev mY : Type := String × ByteArray × Nat × Option FieldType × Nat × Nat × Bool
def QE (G : gG) (σ0 σE : St) (rE : Option V3) : Array Value → State → Outcome → State → Prop := fun _ st oc t => oc = .returned (rE.map vv) ∧ HR G σE t.heap ∧ Ex σ0 σE ∧ va_F (Fre σ0) st t
/-- CONTRACT: called with vs over the heap σ the method returns r, over the heap τ -/
def Mt (G : gG) (Y : mY) (y : MethodName) (vs : List V3) (σ : St) (r : Option V3) (τ : St) : Prop :=
  ∀ l : Launch, Met l y (ws_ y Y.2.1 Y.2.2.1 Y.2.2.2.1) { frames := Y.2.2.2.2.1, cells := σ.rc, slots := σ.rs, locals := Y.2.2.2.2.2.1 } (va_Pc (mS vs) (fun U => KT G σ U ∧ KZ σ U U.heap ∧ HR G σ U.heap)) (QE G σ τ r) (τ.sz - σ.sz) (σ.rs - τ.rs) (Fre σ)
/-- inside a body -/
def Cx (G : gG) (Y : mY) (σ0 : St) (p : Program) (s : State) (m : MethodId) (args : Array Value) (meth : Method) (c : Code) : Prop :=
  p.tables.exec = Jvm.exec ∧ c.code = Y.2.1 ∧ meth.sig.returnType = Y.2.2.2.1 ∧ meth.locks = false ∧ c.maxLocals = Y.2.2.1 ∧ s.vm.findClass Y.1 = some m.cls ∧ (∀ w ∈ lw_all, w.before args s = true) ∧ KT G σ0 s ∧ KZ σ0 s s.heap ∧ (s.heap.size = σ0.sz ∧ σ0.lo ≤ σ0.sz) ∧ (Y.2.2.2.2.2.2 = true → meth.name = "<init>")
/-- from pc, with these locals and operands over the heap σ, the method comes to its end: answer rE, heap σE -/
def Go (G : gG) (Y : mY) (σ0 σE : St) (rE : Option V3) (pc : Nat) (ls : List (Nat × V3)) (st : List V3) (σ : St) : Prop :=
  ∀ (p : Program) (l : Launch) (e : Env) (s : State) (m : MethodId) (args : Array Value) (below : List Frame) (meth : Method) (c : Code) (_ : Cx G Y σ0 p s m args meth c) (H : Heap) (locs : List Loc) (lsA : Array Slot),
    HR G σ H → Ex σ0 σ → va_S (Fre σ0) s.heap H locs → lv_has lsA Y.2.2.1 (mL ls) →
    W p l e { frames := Y.2.2.2.2.1, cells := σ0.rc, slots := σ0.rs, locals := Y.2.2.2.2.2.1 } s m args below meth c H locs (σ.sz - σ0.sz) (σ0.rs - σ.rs) (MQ below (QE G σ0 σE rE) args s (σE.sz - σ0.sz) (σ0.rs - σE.rs) (Fre σ0)) (F0 m pc lsA (mS st))
