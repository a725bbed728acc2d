/-! THE COMPONENT's States against the mathematics. -/
/-- a State at p, its arrays behind it -/
def StW (σ : Hp) (p : Nat) : Prop := h_tg σ p = 4 ∧ ∀ k, k < 7 → h_R σ p k = some (p + 1 + k) ∧ h_tg σ (p + 1 + k) = 40 ∧ h_ln σ (p + 1 + k) = 6
theorem StW.r {σ : Hp} {p : Nat} (h : StW σ p) (k : Nat) (hk : k < 7) : h_R σ p k = some (p + 1 + k) := (h.2 k hk).1
theorem StW.t {σ : Hp} {p : Nat} (h : StW σ p) (k : Nat) (hk : k < 7) : h_tg σ (p + 1 + k) = 40 := (h.2 k hk).2.1
theorem StW.l {σ : Hp} {p : Nat} (h : StW σ p) (k : Nat) (hk : k < 7) : h_ln σ (p + 1 + k) = 6 := (h.2 k hk).2.2
/-- only numbers of the cells of W are other than they were -/
def Ni (W : Nat → Prop) (σ σ' : Hp) : Prop := h_tg σ' = h_tg σ ∧ h_ln σ' = h_ln σ ∧ h_R σ' = h_R σ ∧ h_nx σ' = h_nx σ ∧ h_us σ' = h_us σ ∧ ∀ q, ¬ W q → h_I σ' q = h_I σ q
theorem Ni.refl {W : Nat → Prop} {σ : Hp} : Ni W σ σ := ⟨rfl, rfl, rfl, rfl, rfl, fun _ _ => rfl⟩
theorem Ni.trans {W : Nat → Prop} {σ σ1 σ2 : Hp} (h : Ni W σ σ1) (k : Ni W σ1 σ2) : Ni W σ σ2 :=
  ⟨k.1.trans h.1, k.2.1.trans h.2.1, k.2.2.1.trans h.2.2.1, k.2.2.2.1.trans h.2.2.2.1, k.2.2.2.2.1.trans h.2.2.2.2.1, fun q hq => (k.2.2.2.2.2 q hq).trans (h.2.2.2.2.2 q hq)⟩
theorem Ni.mono {W W' : Nat → Prop} {σ σ' : Hp} (h : Ni W σ σ') (hw : ∀ q, W q → W' q) : Ni W' σ σ' := ⟨h.1, h.2.1, h.2.2.1, h.2.2.2.1, h.2.2.2.2.1, fun q hq => h.2.2.2.2.2 q (fun z => hq (hw q z))⟩
theorem Ni.set {W : Nat → Prop} {σ : Hp} {p k : Nat} {v : Int} (h : W p) : Ni W σ (setI σ p k v) := ⟨rfl, rfl, rfl, rfl, rfl, fun q hq => up2_row (fun e => hq (by rw [e]; exact h))⟩
theorem Ni.step {W : Nat → Prop} {σ σ1 : Hp} {p k : Nat} {v : Int} (h : Ni W σ σ1) (hp : W p) : Ni W σ (setI σ1 p k v) := h.trans (Ni.set hp)
theorem StW.ni {W : Nat → Prop} {σ σ' : Hp} {p : Nat} (h : StW σ p) (k : Ni W σ σ') : StW σ' p := by
  unfold StW
  rw [k.1, k.2.1, k.2.2.1]
  exact h
/-- the State at p shows A; n people -/
def RX (n : Nat) (σ : Hp) (p : Nat) (A : SV) : Prop := StW σ p ∧ (∀ i, i < 4 → h_I σ p (7 + i) = A 0 i) ∧ (∀ r, (r = 1 ∨ r = 2 ∨ r = 3 ∨ r = 4 ∨ r = 7) → ∀ i, i < 6 → h_I σ (p + r) i = A r i) ∧ (A 0 0 = 1 → ∀ r, (r = 5 ∨ r = 6) → ∀ i, i < 6 → h_I σ (p + r) i = A r i)
def stA (p : Nat) : Nat → Prop := fun q => p ≤ q ∧ q < p + 8
theorem RX.kept {n : Nat} {σ σ' : Hp} {p : Nat} {A : SV} {W : Nat → Prop} (h : RX n σ p A) (k : Ni W σ σ') (hw : ∀ q, W q → ¬ stA p q) : RX n σ' p A := by
  obtain ⟨h1, h2, h3, h4⟩ := h
  have e : ∀ r, r < 8 → h_I σ' (p + r) = h_I σ (p + r) := fun r hr => k.2.2.2.2.2 _ (fun z => hw _ z ⟨Nat.le_add_right _ _, Nat.add_lt_add_left hr _⟩)
  have e0 : h_I σ' p = h_I σ p := e 0 (by decide)
  refine ⟨h1.ni k, fun i hi => by rw [e0]; exact h2 i hi, fun r hr i hi => ?_, fun ha r hr i hi => ?_⟩
  · rw [e r (by omega)]; exact h3 r hr i hi
  · rw [e r (by omega)]; exact h4 ha r hr i hi
/-- a number of a row written -/
theorem RX.set {n : Nat} {σ : Hp} {p : Nat} {A : SV} (h : RX n σ p A) {r l : Nat} {v : Int} (hr : 1 ≤ r ∧ r ≤ 7) : RX n (setI σ (p + r) l v) p (up2 A r l v) := by
  obtain ⟨h1, h2, h3, h4⟩ := h
  refine ⟨h1.ni (Ni.set (W := fun q => q = p + r) rfl), fun i hi => ?_, fun r' hr' i hi => ?_, fun ha r' hr' i hi => ?_⟩
  · rw [si_I, if_neg (by omega), u2_ne (by omega)]; exact h2 i hi
  · rw [si_I]
    by_cases e : r' = r ∧ i = l
    · rw [if_pos ⟨by omega, e.2⟩, e.1, e.2, u2_same]
    · rw [if_neg (by omega), u2_ne e]; exact h3 r' hr' i hi
  · rw [u2_ne (by omega)] at ha
    rw [si_I]
    by_cases e : r' = r ∧ i = l
    · rw [if_pos ⟨by omega, e.2⟩, e.1, e.2, u2_same]
    · rw [if_neg (by omega), u2_ne e]; exact h4 ha r' hr' i hi
theorem RX.set0 {n : Nat} {σ : Hp} {p : Nat} {A : SV} (h : RX n σ p A) {j : Nat} {v : Int} (hj : 1 ≤ j ∧ j < 4) : RX n (setI σ p (7 + j) v) p (up2 A 0 j v) := by
  obtain ⟨h1, h2, h3, h4⟩ := h
  refine ⟨h1.ni (Ni.set (W := fun q => q = p) rfl), fun i hi => ?_, fun r' hr' i hi => ?_, fun ha r' hr' i hi => ?_⟩
  · rw [si_I]
    by_cases e : i = j
    · rw [if_pos ⟨rfl, by omega⟩, e, u2_same]
    · rw [if_neg (by omega), u2_ne (by omega)]; exact h2 i hi
  · rw [si_I, if_neg (by omega), u2_ne (by omega)]; exact h3 r' hr' i hi
  · rw [u2_ne (by omega)] at ha
    rw [si_I, if_neg (by omega), u2_ne (by omega)]; exact h4 ha r' hr' i hi
theorem gets_ {n : Nat} {σ : Hp} {p l : Nat} {c : Int} {A : SV} {Q : Unit → Hp → Prop} (h : RX n σ p A) (hl : l < 6) (hr : 0 ≤ A 1 l + c ∧ A 1 l + c < 2147483648) (q : ∀ σ', Ni (stA p) σ σ' → RX n σ' p (getsF A l c) → Q () σ') : x4_gets (some p) (l : Int) c σ Q := by
  have e : w32 (l : Int) = l := wn l (by omega)
  have hW := h.1
  have e1 : h_I σ (p + 1) l = A 1 l := h.2.2.1 1 (Or.inl rfl) l hl
  simp only [x4_gets, pb_, gR_, hW.1, hW.r 0 (by decide), ld_, st_, e, hW.t 0 (by decide), hW.l 0 (by decide), Int.toNat_natCast, pr_, true_and, Nat.add_zero, e1]
  have hv : w32 (zmin 9999 (A 1 l + c)) = if 9999 < A 1 l + c then 9999 else A 1 l + c := by
    unfold zmin
    rw [w32_id (z := A 1 l + c) (by omega) (by omega), show w32 9999 = 9999 by decide]
    by_cases h : A 1 l + c < 9999
    · rw [if_pos h, if_neg (by omega)]
      exact w32_id (by omega) (by omega)
    · rw [if_neg h]
      by_cases h' : 9999 < A 1 l + c
      · rw [if_pos h']; decide
      · rw [if_neg h', show A 1 l + c = 9999 by omega]; decide
  rw [hv]
  exact ⟨by omega, by omega, q _ (Ni.set ⟨by omega, by omega⟩) (h.set ⟨by decide, by decide⟩)⟩
