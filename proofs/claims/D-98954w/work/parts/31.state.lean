/-! THE MATHEMATICS of a town and its states. -/
/-- rows: 0 away, days, homes, harm; 1 purse, 2 debt, 3 home, 4 hidden, 5 had, 6 neat, 7 self -/
abbrev SV : Type := Nat → Nat → Int
/-- a town: how many; who (kind, skill, purse, debt, home); who may not be whom; laws (spends, mends, good, wish) as postfix codes; sign -/
abbrev TD : Type := Nat × (Nat → Nat → Int) × (Nat → Nat → Int) × (Nat → Option (List (Nat × Int))) × Int
abbrev t_n (T : TD) : Nat := T.1
abbrev t_w (T : TD) : Nat → Nat → Int := T.2.1
abbrev t_b (T : TD) : Nat → Nat → Int := T.2.2.1
abbrev t_c (T : TD) : Nat → Option (List (Nat × Int)) := T.2.2.2.1
abbrev t_s (T : TD) : Int := T.2.2.2.2
/-- an op of two: 4 + 5 - 6 * 7 < 8 = 9 and 10 or -/
def bothF (c : Nat) (a b : Int) : Int :=
  if c = 4 then w32 (a + b) else if c = 5 then w32 (a - b) else if c = 6 then w32 (a * b) else if c = 7 then (if a < b then 1 else 0) else if c = 8 then (if a = b then 1 else 0) else if c = 9 then (if a ≠ 0 ∧ b ≠ 0 then 1 else 0) else if a ≠ 0 ∨ b ≠ 0 then 1 else 0
def pstep (F : Nat → Int) (s : List Int) (x : Nat × Int) : List Int :=
  if x.1 = 1 then x.2 :: s else if x.1 = 2 then F x.2.toNat :: s else if x.1 = 3 then (match s with
    | a :: s => (if a = 0 then 1 else 0) :: s
    | [] => []) else match s with
    | b :: a :: s => bothF x.1 a b :: s
    | _ => []
def pex (F : Nat → Int) (c : List (Nat × Int)) (s : List Int) : List Int := c.foldl (pstep F) s
def evl (F : Nat → Int) (c : List (Nat × Int)) : Int := (pex F c []).headD 0
/-- what is known of life l when p leads it -/
def fct (T : TD) (A : SV) (l p : Nat) (all : Bool) : Nat → Int := fun k =>
  if k = 0 then (if all then A 1 l else if A 1 l - A 4 l < 0 then 0 else A 1 l - A 4 l) else if k = 1 then A 2 l else if k = 2 then A 3 l else if k = 3 then t_w T p 1 else t_w T p 0
def clampF (v lo hi : Int) : Int := if v < lo then lo else if hi < v then hi else v
def getsF (A : SV) (l : Nat) (c : Int) : SV := up2 A 1 l (if 9999 < A 1 l + c then 9999 else A 1 l + c)
/-- the poorest but one of the first n lives: none -1 -/
def poorF (A : SV) (but : Nat) : Nat → Int
  | 0 => -1
  | n + 1 => if n ≠ but ∧ (poorF A but n < 0 ∨ A 1 n < A 1 (poorF A but n).toNat) then n else poorF A but n
def worthF (T : TD) (A : SV) (l p : Nat) (all : Bool) (j : Nat) (d : Int) : Int := match t_c T j with
  | none => d
  | some c => evl (fct T A l p all) c
/-- what is spent of life l -/
def outF (T : TD) (sg : Int) (A : SV) (l : Nat) : Int :=
  let p := (A 7 l).toNat
  let th := decide (t_w T p 0 = 2)
  let m := fct T A l p th 0
  let v := clampF (worthF T A l p th 0 (t_w T p 1 * 2)) 0 (if m < sg then m else sg)
  if t_w T p 0 = 1 then v / 2 else v
def spendF (T : TD) (sg : Int) (A : SV) (l : Nat) : SV :=
  let p := (A 7 l).toNat
  let v := outF T sg A l
  let A1 := up2 A 1 l (A 1 l - v)
  if t_w T p 0 = 2 then getsF A1 p v else
    let paid := if t_w T p 0 = 3 then (if v < A 2 l then v else A 2 l) else 0
    let A2 := up2 A1 2 l (A 2 l - paid)
    let to := poorF A1 l (t_n T)
    if to < 0 then A2 else getsF A2 to.toNat (v - paid)
def mendF (T : TD) (A : SV) (l : Nat) : SV :=
  let p := (A 7 l).toNat
  let th := decide (t_w T p 0 = 2)
  let v := clampF (worthF T A l p th 1 (if 4 < t_w T p 1 then 1 else if t_w T p 1 < 3 then -1 else 0)) (-3) 3
  up2 A 3 l (clampF (A 3 l + v) 0 9)
def passTo (T : TD) (sg : Int) (A : SV) : Nat → SV
  | 0 => A
  | l + 1 => mendF T (spendF T sg (passTo T sg A l) l) l
def passF (T : TD) (sg : Int) (A : SV) : SV := let B := passTo T sg A (t_n T); up2 B 0 1 (w32 (B 0 1 + 1))
def harmF (A : SV) (l : Nat) (good : Bool) : Int :=
  let w := A 5 l - A 1 l + A 2 l
  let n := A 6 l - A 3 l
  let w := if good then -w else w
  let n := if good then -n else n
  if A 0 0 = 0 then 0 else (if w < 0 then 0 else w) + (if n < 0 then 0 else 5 * n)
def harmTo (A : SV) (good : Bool) : Nat → Int
  | 0 => 0
  | l + 1 => harmTo A good l + harmF A l good
/-- ranges -/
def TOK (T : TD) : Prop := t_n T ≤ 6 ∧ (∀ p, p < t_n T → (0 ≤ t_w T p 0 ∧ t_w T p 0 ≤ 3) ∧ (0 ≤ t_w T p 1 ∧ t_w T p 1 ≤ 9) ∧ (0 ≤ t_w T p 2 ∧ t_w T p 2 ≤ 999) ∧ (0 ≤ t_w T p 3 ∧ t_w T p 3 ≤ 999) ∧ (0 ≤ t_w T p 4 ∧ t_w T p 4 ≤ 9)) ∧ (0 ≤ t_s T ∧ t_s T ≤ 999)
def AOK (T : TD) (A : SV) : Prop := (A 0 0 = 0 ∨ A 0 0 = 1) ∧ (∀ i, i < t_n T → (0 ≤ A 1 i ∧ A 1 i ≤ 9999) ∧ (0 ≤ A 2 i ∧ A 2 i ≤ 999) ∧ (0 ≤ A 3 i ∧ A 3 i ≤ 9) ∧ (0 ≤ A 4 i ∧ A 4 i ≤ 999) ∧ (0 ≤ A 7 i ∧ A 7 i < t_n T)) ∧ (A 0 0 = 1 → ∀ i, i < t_n T → (-999 ≤ A 5 i ∧ A 5 i ≤ 9999) ∧ (0 ≤ A 6 i ∧ A 6 i ≤ 9))
theorem clamp_rg {v lo hi : Int} (h : lo ≤ hi) : lo ≤ clampF v lo hi ∧ clampF v lo hi ≤ hi := by
  unfold clampF
  by_cases h1 : v < lo
  · rw [if_pos h1]; exact ⟨Int.le_refl _, h⟩
  · rw [if_neg h1]
    by_cases h2 : hi < v
    · rw [if_pos h2]; exact ⟨h, Int.le_refl _⟩
    · rw [if_neg h2]; omega
theorem fct0 {T : TD} {A : SV} {l p : Nat} {all : Bool} : fct T A l p all 0 = if all then A 1 l else if A 1 l - A 4 l < 0 then 0 else A 1 l - A 4 l := rfl
theorem fct_rg {T : TD} {A : SV} {l p : Nat} {all : Bool} (h1 : 0 ≤ A 1 l) (h4 : 0 ≤ A 4 l) : 0 ≤ fct T A l p all 0 ∧ fct T A l p all 0 ≤ A 1 l := by
  rw [fct0]
  cases all
  · by_cases h : A 1 l - A 4 l < 0
    · rw [if_neg (by decide), if_pos h]; omega
    · rw [if_neg (by decide), if_neg h]; omega
  · rw [if_pos rfl]; omega
theorem out_rg {T : TD} {sg : Int} {A : SV} {l : Nat} (hs : 0 ≤ sg) (h1 : 0 ≤ A 1 l) (h4 : 0 ≤ A 4 l) : 0 ≤ outF T sg A l ∧ outF T sg A l ≤ A 1 l ∧ outF T sg A l ≤ sg := by
  unfold outF
  simp only
  have hf := fct_rg (T := T) (A := A) (l := l) (p := (A 7 l).toNat) (all := decide (t_w T (A 7 l).toNat 0 = 2)) h1 h4
  generalize fct T A l (A 7 l).toNat (decide (t_w T (A 7 l).toNat 0 = 2)) 0 = m at *
  have hm : 0 ≤ (if m < sg then m else sg) ∧ (if m < sg then m else sg) ≤ m ∧ (if m < sg then m else sg) ≤ sg := by
    by_cases h : m < sg
    · rw [if_pos h]; omega
    · rw [if_neg h]; omega
  generalize (if m < sg then m else sg) = m2 at *
  have hc := clamp_rg (v := worthF T A l (A 7 l).toNat (decide (t_w T (A 7 l).toNat 0 = 2)) 0 (t_w T (A 7 l).toNat 1 * 2)) hm.1
  generalize clampF _ 0 m2 = v at *
  by_cases h : t_w T (A 7 l).toNat 0 = 1
  · rw [if_pos h]; omega
  · rw [if_neg h]; omega
/-- the poorest is one of them, not the one left out -/
theorem poor_rg (A : SV) (but : Nat) : ∀ n, poorF A but n = -1 ∨ (0 ≤ poorF A but n ∧ poorF A but n < n ∧ poorF A but n ≠ but) := by
  intro n
  induction n with
  | zero => exact Or.inl rfl
  | succ n ih =>
    unfold poorF
    by_cases h : n ≠ but ∧ (poorF A but n < 0 ∨ A 1 n < A 1 (poorF A but n).toNat)
    · rw [if_pos h]
      refine Or.inr ⟨by omega, by omega, fun e => h.1 (by omega)⟩
    · rw [if_neg h]
      rcases ih with h | ⟨h1, h2, h3⟩
      · exact Or.inl h
      · exact Or.inr ⟨h1, by omega, h3⟩
