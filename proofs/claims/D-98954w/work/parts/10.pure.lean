/-! PURE LAYER: integers for ints and longs; programs as predicate transformers over a state of rows. -/
/-- an int by an integer; a long by an integer -/
def iI (z : Int) : Int32 := Int32.ofInt z
def iL (z : Int) : Int64 := Int64.ofInt z
/-- the integer that an int, a long shows -/
def w32 (z : Int) : Int := (iI z).toInt
def w64 (z : Int) : Int := (iL z).toInt
theorem iI_toInt (x : Int32) : iI x.toInt = x := Int32.ofInt_toInt x
theorem iL_toInt (x : Int64) : iL x.toInt = x := Int64.ofInt_toInt x
theorem iI_add (a b : Int) : iI a + iI b = iI (a + b) := (Int32.ofInt_add a b).symm
theorem iI_sub (a b : Int) : iI a - iI b = iI (a - b) := (Int32.ofInt_sub a b).symm
theorem iI_mul (a b : Int) : iI a * iI b = iI (a * b) := (Int32.ofInt_mul a b).symm
theorem iI_neg (a : Int) : -iI a = iI (-a) := (Int32.ofInt_neg a).symm
theorem iL_add (a b : Int) : iL a + iL b = iL (a + b) := (Int64.ofInt_add a b).symm
theorem iL_sub (a b : Int) : iL a - iL b = iL (a - b) := (Int64.ofInt_sub a b).symm
theorem iL_mul (a b : Int) : iL a * iL b = iL (a * b) := (Int64.ofInt_mul a b).symm
theorem iI_lt (a b : Int) : iI a < iI b ↔ w32 a < w32 b := Int32.lt_iff_toInt_lt
theorem iI_le (a b : Int) : iI a ≤ iI b ↔ w32 a ≤ w32 b := Int32.le_iff_toInt_le
theorem iI_eq (a b : Int) : iI a = iI b ↔ w32 a = w32 b := Int32.toInt_inj.symm
theorem iL_lt (a b : Int) : iL a < iL b ↔ w64 a < w64 b := Int64.lt_iff_toInt_lt
theorem iL_le (a b : Int) : iL a ≤ iL b ↔ w64 a ≤ w64 b := Int64.le_iff_toInt_le
theorem iL_eq (a b : Int) : iL a = iL b ↔ w64 a = w64 b := Int64.toInt_inj.symm
theorem w32_id {z : Int} (h1 : -2147483648 ≤ z) (h2 : z < 2147483648) : w32 z = z := Int32.toInt_ofInt_of_le h1 h2
theorem w64_id {z : Int} (h1 : -9223372036854775808 ≤ z) (h2 : z < 9223372036854775808) : w64 z = z := Int64.toInt_ofInt_of_le h1 h2
theorem w32_lo (z : Int) : -2147483648 ≤ w32 z := Int32.le_toInt _
theorem w32_hi (z : Int) : w32 z < 2147483648 := Int32.toInt_lt _
theorem w64_lo (z : Int) : -9223372036854775808 ≤ w64 z := Int64.le_toInt _
theorem w64_hi (z : Int) : w64 z < 9223372036854775808 := Int64.toInt_lt _
theorem w32_w32 (z : Int) : w32 (w32 z) = w32 z := w32_id (w32_lo z) (w32_hi z)
theorem w64_w64 (z : Int) : w64 (w64 z) = w64 z := w64_id (w64_lo z) (w64_hi z)
theorem iI_w32 (z : Int) : iI (w32 z) = iI z := iI_toInt _
theorem iL_w64 (z : Int) : iL (w64 z) = iL z := iL_toInt _
/-! the other operations, by the machine's own -/
def zdiv (a b : Int) : Int := (iI a / iI b).toInt
def zrem (a b : Int) : Int := (iI a - iI a / iI b * iI b).toInt
def zand (a b : Int) : Int := (iI a &&& iI b).toInt
def zor (a b : Int) : Int := (iI a ||| iI b).toInt
def zxor (a b : Int) : Int := (iI a ^^^ iI b).toInt
def zshl (a b : Int) : Int := (iI a <<< (iI b &&& 31)).toInt
def zshr (a b : Int) : Int := (iI a >>> (iI b &&& 31)).toInt
def zushr (a b : Int) : Int := ((iI a).toUInt32 >>> ((iI b).toUInt32 &&& Int32.toUInt32 31)).toInt32.toInt
def zi2b (a : Int) : Int := (iI a).toInt8.toInt32.toInt
def zi2c (a : Int) : Int := ((iI a).toUInt32 % 65536).toInt32.toInt
def zi2l (a : Int) : Int := w32 a
def zl2i (a : Int) : Int := (iL a).toInt32.toInt
def ldiv' (a b : Int) : Int := (iL a / iL b).toInt
def lrem' (a b : Int) : Int := (iL a - iL a / iL b * iL b).toInt
def land' (a b : Int) : Int := (iL a &&& iL b).toInt
def lor' (a b : Int) : Int := (iL a ||| iL b).toInt
def lshl' (a b : Int) : Int := (iL a <<< ((iI b).toInt64 &&& 63)).toInt
def lshr' (a b : Int) : Int := (iL a >>> ((iI b).toInt64 &&& 63)).toInt
def lcmp' (a b : Int) : Int := if w64 b < w64 a then 1 else if w64 a = w64 b then 0 else -1
theorem iI_i2l (a : Int) : (iI a).toInt64 = iL (zi2l a) := by
  show (iI a).toInt64 = Int64.ofInt (iI a).toInt
  exact (Int64.ofInt_int32ToInt (iI a)).symm
theorem iL_l2i (a : Int) : (iL a).toInt32 = iI (zl2i a) := (iI_toInt _).symm
/-! rows of integers by number -/
def up2 (f : Nat → Nat → Int) (j i : Nat) (v : Int) : Nat → Nat → Int := fun a b => if a = j ∧ b = i then v else f a b
def up1 (f : Nat → Int) (i : Nat) (v : Int) : Nat → Int := fun b => if b = i then v else f b
/-! PROGRAMS over a state S: 'from this state the program ends with Q'. P: what is asked of its end: (a -> S -> Prop), or that and the same of a thrown thing. -/
abbrev PT (S : Type) (α : Type) : Type := S → (α → S → Prop) → Prop
abbrev XT (S : Type) (α : Type) : Type := S → (α → S → Prop) × (Nat → S → Prop) → Prop
def pret {S α : Type} (a : α) : PT S α := fun σ Q => Q a σ
def xret {S α : Type} (a : α) : XT S α := fun σ Q => Q.1 a σ
def xthr {S α : Type} (a : Nat) : XT S α := fun σ Q => Q.2 a σ
/-- a program that gives a, then f a -/
def pbnd {S α P : Type} (x : PT S α) (f : α → S → P → Prop) : S → P → Prop := fun σ Q => x σ (fun a σ' => f a σ' Q)
/-- the same of one that may throw: what it throws goes on -/
def xbnd {S α β : Type} (x : XT S α) (f : α → XT S β) : XT S β := fun σ Q => x σ (fun a σ' => f a σ' Q, Q.2)
def pfail {S P : Type} : S → P → Prop := fun _ _ => False
def pite {S P : Type} (c : Prop) (t1 t2 : S → P → Prop) : S → P → Prop := fun σ Q => (c → t1 σ Q) ∧ (¬ c → t2 σ Q)
def plet {S β P : Type} (a : β) (f : β → S → P → Prop) : S → P → Prop := f a
/-- a loop: F s back: from s one time round, on by back -/
def pit {S T P : Type} (F : T → (T → S → P → Prop) → S → P → Prop) : Nat → T → S → P → Prop
  | 0, _ => pfail
  | n + 1, s => F s (pit F n)
def ploop {S T P : Type} (F : T → (T → S → P → Prop) → S → P → Prop) (s : T) : S → P → Prop := fun σ Q => ∃ n : Nat, pit F n s σ Q
def pnz {S : Type} (b : Int) : PT S Unit := fun σ Q => w32 b ≠ 0 ∧ Q () σ
def pnzl {S : Type} (b : Int) : PT S Unit := fun σ Q => w64 b ≠ 0 ∧ Q () σ
/-- 0 or 1 goes on -/
def pzo {S : Type} (v : Int) : PT S Unit := fun σ Q => (v = 0 ∨ v = 1) ∧ Q () σ
theorem ploop_steps {S T P : Type} {F : T → (T → S → P → Prop) → S → P → Prop} {Q : P} (N : Nat) (g : Nat → T) (s : Nat → S)
    (hs : ∀ k, k < N → ∀ back : T → S → P → Prop, back (g (k + 1)) (s (k + 1)) Q → F (g k) back (s k) Q) (hl : ∀ back : T → S → P → Prop, F (g N) back (s N) Q) : ploop F (g 0) (s 0) Q := by
  have h : ∀ j, j ≤ N → pit F (j + 1) (g (N - j)) (s (N - j)) Q := by
    intro j
    induction j with
    | zero => intro _; exact hl _
    | succ j ih =>
      intro hj
      have h1 := ih (by omega)
      have e : N - (j + 1) + 1 = N - j := by omega
      refine hs (N - (j + 1)) (by omega) (pit F (j + 1)) ?_
      rw [e]
      exact h1
  exact ⟨N + 1, by have := h N (Nat.le_refl _); rwa [Nat.sub_self] at this⟩
/-- a loop by an invariant and a measure that falls -/
theorem ploop_inv {S T P : Type} {F : T → (T → S → P → Prop) → S → P → Prop} {Q : P} (I : T → S → Prop) (μ : T → S → Nat)
    (hs : ∀ t σ, I t σ → ∀ back : T → S → P → Prop, (∀ t' σ', I t' σ' → μ t' σ' < μ t σ → back t' σ' Q) → F t back σ Q) {t : T} {σ : S} (h : I t σ) : ploop F t σ Q := by
  have key : ∀ n t σ, μ t σ < n → I t σ → pit F n t σ Q := by
    intro n
    induction n with
    | zero => intro t σ h; omega
    | succ n ih =>
      intro t σ hm hI
      exact hs t σ hI _ (fun t' σ' hI' hm' => ih t' σ' (by omega) hI')
  exact ⟨μ t σ + 1, key _ t σ (Nat.lt_succ_self _) h⟩
/-! the model's state: row 0 its fields, rows from 1 on its arrays -/
abbrev MS : Type := Nat → Nat → Int
abbrev MM (α : Type) : Type := PT MS α
def mget (k : Nat) : MM Int := fun σ Q => Q (σ 0 k) σ
def mput (k : Nat) (v : Int) : MM Unit := fun σ Q => Q () (up2 σ 0 k v)
def mputz (k : Nat) (v : Int) : MM Unit := fun σ Q => (v = 0 ∨ v = 1) ∧ Q () (up2 σ 0 k v)
def mrd (j n : Nat) (i : Int) : MM Int := fun σ Q => (0 ≤ w32 i ∧ w32 i < n) ∧ Q (σ j (w32 i).toNat) σ
def mwr (j n : Nat) (i v : Int) : MM Unit := fun σ Q => (0 ≤ w32 i ∧ w32 i < n) ∧ Q () (up2 σ j (w32 i).toNat v)
def mwrz (j n : Nat) (i v : Int) : MM Unit := fun σ Q => (0 ≤ w32 i ∧ w32 i < n) ∧ (v = 0 ∨ v = 1) ∧ Q () (up2 σ j (w32 i).toNat v)
