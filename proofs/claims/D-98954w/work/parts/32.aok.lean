/-! Ranges are kept. -/
theorem u2_same {A : SV} {r i : Nat} {v : Int} : up2 A r i v r i = v := by simp [up2]
theorem u2_ne {A : SV} {r i : Nat} {v : Int} {a b : Nat} (h : ¬ (a = r ∧ b = i)) : up2 A r i v a b = A a b := if_neg h
/-- a place of a row written in its range -/
theorem AOK.up {T : TD} {A : SV} (h : AOK T A) {r i : Nat} {v : Int} (hr : r = 1 ∨ r = 2 ∨ r = 3 ∨ r = 4) (hv : i < t_n T → (r = 1 → 0 ≤ v ∧ v ≤ 9999) ∧ (r = 2 → 0 ≤ v ∧ v ≤ 999) ∧ (r = 3 → 0 ≤ v ∧ v ≤ 9) ∧ (r = 4 → 0 ≤ v ∧ v ≤ 999)) : AOK T (up2 A r i v) := by
  obtain ⟨h0, h1, h2⟩ := h
  have e0 : up2 A r i v 0 0 = A 0 0 := u2_ne (by omega)
  refine ⟨by rw [e0]; exact h0, fun k hk => ?_, fun ha k hk => ?_⟩
  · obtain ⟨a1, a2, a3, a4, a7⟩ := h1 k hk
    have key : ∀ r', r' = 1 ∨ r' = 2 ∨ r' = 3 ∨ r' = 4 ∨ r' = 7 → up2 A r i v r' k = A r' k ∨ (r' = r ∧ k = i ∧ up2 A r i v r' k = v) := by
      intro r' _
      by_cases e : r' = r ∧ k = i
      · exact Or.inr ⟨e.1, e.2, by rw [e.1, e.2]; exact u2_same⟩
      · exact Or.inl (u2_ne e)
    have b1 := key 1 (by omega)
    have b2 := key 2 (by omega)
    have b3 := key 3 (by omega)
    have b4 := key 4 (by omega)
    have b7 := key 7 (by omega)
    have hv' : i = k → (r = 1 → 0 ≤ v ∧ v ≤ 9999) ∧ (r = 2 → 0 ≤ v ∧ v ≤ 999) ∧ (r = 3 → 0 ≤ v ∧ v ≤ 9) ∧ (r = 4 → 0 ≤ v ∧ v ≤ 999) := fun e => hv (by omega)
    refine ⟨?_, ?_, ?_, ?_, ?_⟩
    · rcases b1 with e | ⟨e1, e2, e3⟩
      · rw [e]; exact a1
      · rw [e3]; exact (hv' e2.symm).1 e1.symm
    · rcases b2 with e | ⟨e1, e2, e3⟩
      · rw [e]; exact a2
      · rw [e3]; exact (hv' e2.symm).2.1 e1.symm
    · rcases b3 with e | ⟨e1, e2, e3⟩
      · rw [e]; exact a3
      · rw [e3]; exact (hv' e2.symm).2.2.1 e1.symm
    · rcases b4 with e | ⟨e1, e2, e3⟩
      · rw [e]; exact a4
      · rw [e3]; exact (hv' e2.symm).2.2.2 e1.symm
    · rcases b7 with e | ⟨e1, -, -⟩
      · rw [e]; exact a7
      · omega
  · rw [e0] at ha
    obtain ⟨a5, a6⟩ := h2 ha k hk
    rw [u2_ne (by omega), u2_ne (by omega)]
    exact ⟨a5, a6⟩
theorem AOK.gets {T : TD} {A : SV} (h : AOK T A) {i : Nat} {c : Int} (hi : i < t_n T) (hc : 0 ≤ c) : AOK T (getsF A i c) := by
  obtain ⟨a1, -⟩ := h.2.1 i hi
  refine h.up (Or.inl rfl) (fun _ => ⟨fun _ => ?_, by omega, by omega, by omega⟩)
  by_cases e : 9999 < A 1 i + c
  · rw [if_pos e]; omega
  · rw [if_neg e]; omega
theorem AOK.spend {T : TD} {sg : Int} {A : SV} (h : AOK T A) (hs : 0 ≤ sg) {l : Nat} (hl : l < t_n T) : AOK T (spendF T sg A l) := by
  obtain ⟨a1, a2, a3, a4, a7⟩ := h.2.1 l hl
  have ho := out_rg (T := T) (sg := sg) hs a1.1 a4.1
  unfold spendF
  simp only
  generalize hv : outF T sg A l = v at *
  have h1 : AOK T (up2 A 1 l (A 1 l - v)) := h.up (Or.inl rfl) (fun _ => ⟨fun _ => by omega, by omega, by omega, by omega⟩)
  by_cases k2 : t_w T (A 7 l).toNat 0 = 2
  · rw [if_pos k2]
    exact h1.gets (by omega) ho.1
  · rw [if_neg k2]
    have hp : 0 ≤ (if t_w T (A 7 l).toNat 0 = 3 then (if v < A 2 l then v else A 2 l) else 0) ∧ (if t_w T (A 7 l).toNat 0 = 3 then (if v < A 2 l then v else A 2 l) else 0) ≤ A 2 l ∧ (if t_w T (A 7 l).toNat 0 = 3 then (if v < A 2 l then v else A 2 l) else 0) ≤ v := by
      by_cases k3 : t_w T (A 7 l).toNat 0 = 3
      · rw [if_pos k3]
        by_cases e : v < A 2 l
        · rw [if_pos e]; omega
        · rw [if_neg e]; omega
      · rw [if_neg k3]; omega
    generalize (if t_w T (A 7 l).toNat 0 = 3 then (if v < A 2 l then v else A 2 l) else 0) = paid at *
    have h2 : AOK T (up2 (up2 A 1 l (A 1 l - v)) 2 l (A 2 l - paid)) := h1.up (Or.inr (Or.inl rfl)) (fun _ => ⟨by omega, fun _ => by omega, by omega, by omega⟩)
    rcases poor_rg (up2 A 1 l (A 1 l - v)) l (t_n T) with e | ⟨e1, e2, e3⟩
    · rw [e, if_pos (by decide)]
      exact h2
    · rw [if_neg (by omega)]
      exact h2.gets (by omega) (by omega)
theorem AOK.mend {T : TD} {A : SV} (h : AOK T A) {l : Nat} : AOK T (mendF T A l) := by
  unfold mendF
  simp only
  exact h.up (Or.inr (Or.inr (Or.inl rfl))) (fun _ => ⟨by omega, by omega, fun _ => clamp_rg (by decide), by omega⟩)
theorem AOK.passTo {T : TD} {sg : Int} {A : SV} (h : AOK T A) (hs : 0 ≤ sg) : ∀ l, l ≤ t_n T → AOK T (passTo T sg A l) := by
  intro l
  induction l with
  | zero => intro _; exact h
  | succ l ih => intro hl; exact ((ih (by omega)).spend hs (by omega)).mend
theorem AOK.row0 {T : TD} {A : SV} (h : AOK T A) {i : Nat} {v : Int} (hi : i ≠ 0) : AOK T (up2 A 0 i v) := by
  obtain ⟨h0, h1, h2⟩ := h
  have e0 : up2 A 0 i v 0 0 = A 0 0 := u2_ne (by omega)
  refine ⟨by rw [e0]; exact h0, fun k hk => ?_, fun ha k hk => ?_⟩
  · rw [u2_ne (by omega), u2_ne (by omega), u2_ne (by omega), u2_ne (by omega), u2_ne (by omega)]
    exact h1 k hk
  · rw [e0] at ha
    rw [u2_ne (by omega), u2_ne (by omega)]
    exact h2 ha k hk
theorem AOK.pass {T : TD} {sg : Int} {A : SV} (h : AOK T A) (hs : 0 ≤ sg) : AOK T (passF T sg A) := (h.passTo hs _ (Nat.le_refl _)).row0 (by decide)
/-- spending and mending leave the other rows alone -/
theorem spend_out {T : TD} {sg : Int} {A : SV} {l r i : Nat} (h : r ≠ 1 ∧ r ≠ 2) : spendF T sg A l r i = A r i := by
  unfold spendF getsF
  simp only
  split
  · rw [u2_ne (by omega), u2_ne (by omega)]
  · split
    · rw [u2_ne (by omega), u2_ne (by omega)]
    · rw [u2_ne (by omega), u2_ne (by omega), u2_ne (by omega)]
theorem mend_out {T : TD} {A : SV} {l r i : Nat} (h : r ≠ 3) : mendF T A l r i = A r i := u2_ne (by omega)
