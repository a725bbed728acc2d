/-! STATES: rows of six, kept by the component in a State and its arrays, by the model in a stretch of one array. -/
/-- a State at p, its arrays behind it -/
def StW (σ : Hp) (p : Nat) : Prop := h_tg σ p = 4 ∧ ∀ k, k < 7 → h_R σ p k = some (p + 1 + k) ∧ h_tg σ (p + 1 + k) = 40 ∧ h_ln σ (p + 1 + k) = 6
theorem StW.r {σ : Hp} {p : Nat} (h : StW σ p) (k : Nat) (hk : k < 7) : h_R σ p k = some (p + 1 + k) := (h.2 k hk).1
theorem StW.t {σ : Hp} {p : Nat} (h : StW σ p) (k : Nat) (hk : k < 7) : h_tg σ (p + 1 + k) = 40 := (h.2 k hk).2.1
theorem StW.l {σ : Hp} {p : Nat} (h : StW σ p) (k : Nat) (hk : k < 7) : h_ln σ (p + 1 + k) = 6 := (h.2 k hk).2.2
/-- rows: 0 away, days, homes, harm; 1 purse, 2 debt, 3 home, 4 hidden, 5 had, 6 neat, 7 self -/
abbrev SV : Type := Nat → Nat → Int
/-- the places of a State's cells that hold numbers -/
def stp (p r i : Nat) : Nat × Nat := if r = 0 then (p, 7 + i) else (p + r, i)
def xs9 (σ : Hp) (p : Nat) : SV := fun r i => h_I σ (stp p r i).1 (stp p r i).2
theorem gets_ {σ : Hp} {p l : Nat} {c : Int} {Q : Unit → Hp → Prop} (h : StW σ p) (hl : l < 6) (q : Q () (setI σ (p + 1) l (w32 (zmin 9999 (h_I σ (p + 1) l + c))))) : x4_gets (some p) (l : Int) c σ Q := by
  have e : w32 (l : Int) = l := wn l (by omega)
  simp only [x4_gets, pb_, gR_, h.1, h.r 0 (by decide), ld_, st_, e, h.t 0 (by decide), h.l 0 (by decide), Int.toNat_natCast, pr_, true_and, Nat.add_zero]
  refine ⟨by omega, by omega, q⟩
