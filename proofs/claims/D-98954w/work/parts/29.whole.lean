/-! THE LAW's WALK FROM ITS ENTRY: what is left is pure. -/
/-- the pure heap at the law's entry: the texts alone -/
def σI : Hp := (fun p => if CB ≤ p ∧ p < CB + 13 then 29 else if CB + 100 ≤ p ∧ p < CB + 113 then 48 else 99, fun p => if CB + 100 ≤ p ∧ p < CB + 113 then klen (p - (CB + 100)) else 0, fun p j => if CB + 100 ≤ p ∧ p < CB + 113 then kbyt (p - (CB + 100)) j else 0, fun p j => if (CB ≤ p ∧ p < CB + 13) ∧ j = 0 then some (CB + 100 + (p - CB)) else none, 0, 0)
theorem CI_I : CI σI := by
  have tg : ∀ p, h_tg σI p = if CB ≤ p ∧ p < CB + 13 then 29 else if CB + 100 ≤ p ∧ p < CB + 113 then 48 else 99 := fun _ => rfl
  refine ⟨fun p hp => ?_, fun p hp => ?_⟩
  · rw [tg] at hp
    by_cases h : CB ≤ p ∧ p < CB + 13
    · refine ⟨p - CB, by omega, by omega, ?_, ?_⟩
      · show (if (CB ≤ p ∧ p < CB + 13) ∧ 0 = 0 then some (CB + 100 + (p - CB)) else none) = _
        rw [if_pos ⟨h, rfl⟩]
      · show (if CB + 100 ≤ p ∧ p < CB + 113 then kbyt (p - (CB + 100)) 1 else 0) = 0
        rw [if_neg (by omega)]
    · rw [if_neg h] at hp
      by_cases h2 : CB + 100 ≤ p ∧ p < CB + 113
      · rw [if_pos h2] at hp; omega
      · rw [if_neg h2] at hp; omega
  · rw [tg] at hp
    by_cases h : CB ≤ p ∧ p < CB + 13
    · rw [if_pos h] at hp; omega
    · rw [if_neg h] at hp
      by_cases h2 : CB + 100 ≤ p ∧ p < CB + 113
      · refine ⟨p - (CB + 100), by omega, by omega, if_pos h2, fun j _ => if_pos h2⟩
      · rw [if_neg h2] at hp; omega
theorem XWd_I {g : XG} {H : Heap} (h : H.size = g.2.2.1) : XWd g σI H := by
  refine ⟨h, Nat.zero_le _, Nat.zero_le _, fun p hp => ?_, fun p hp => absurd hp (Nat.not_lt_zero _), rfl, CI_I⟩
  have tg : h_tg σI p = if CB ≤ p ∧ p < CB + 13 then 29 else if CB + 100 ≤ p ∧ p < CB + 113 then 48 else 99 := rfl
  exfalso
  rw [tg] at hp
  by_cases h : CB ≤ p ∧ p < CB + 13
  · rw [if_pos h] at hp; rcases hp with z | z <;> omega
  · rw [if_neg h] at hp
    by_cases h2 : CB + 100 ≤ p ∧ p < CB + 113
    · rw [if_pos h2] at hp; rcases hp with z | z <;> omega
    · rw [if_neg h2] at hp; rcases hp with z | z <;> omega
theorem whole_of (hp : ∀ (Ls : Nat) (xs : Nat → Int32), Ls ≤ 168 → l_law Ls xs σI (fun _ _ => True)) {p : Program} {e : Env} {s : State} {m : MethodId} {below : List Frame} {meth : Method} {c : Code} (l : Launch) (hflags : l.flags = flags0) {b L : Nat} {xs : Nat → Int32} (hL : L ≤ 168) (C0 : lw_At p s m meth c b L xs) : W p l e room_1 s m #[Value.ref b] below meth c s.heap [] 0 0 (lw_Z below #[Value.ref b] s) (entryFrame m ([Value.ref b] : List Value).toArray 7) := by
  obtain ⟨hx, hcode, hret, hml, hown, hts, hX, hbl, hlk, hgv⟩ := C0
  obtain ⟨g, hg, hK, hCs⟩ := x_setup hts hgv
  rw [lg_entry_eq]
  have hW : XWd g σI s.heap := XWd_I hg.symm
  refine ml_law (X := (p, l, e, room_1, s, m, #[Value.ref b], below, meth, c, lw_Z below #[Value.ref b] s)) (g := g) (σ0 := σI) (b := b) (Ls := L) (xs := xs) (Q := fun _ _ => True) ⟨hx, hcode, hml, hlk, hown, fun w hw => hts w (lw_all_tbl hw)⟩ ⟨hK, hg.symm, rfl, rfl, hCs, rfl⟩ ?_ hX hbl (by rw [show xA g b ↔ g.2.2.1 ≤ b from Iff.rfl, hg]; omega) rfl rfl hret rfl hg.symm rfl rfl ⟨(Nat.le_of_ble_eq_true rfl : 2500 ≤ 8192), (Nat.le_of_ble_eq_true rfl : 40 * 2500 ≤ 100000)⟩ σI (hp L xs hL) s.heap [] 0 0 _ ⟨hW, va_S.rf, rfl, rfl, Nat.le_refl _, Nat.le_refl _, fun _ _ => ⟨rfl, rfl⟩⟩ (lv_entry [Value.ref b] (Nat.le_of_ble_eq_true rfl))
  show l.stackTraces = false
  unfold Launch.stackTraces
  rw [hflags]
  decide +kernel
