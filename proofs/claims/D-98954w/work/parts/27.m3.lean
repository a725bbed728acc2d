/-! THE MODEL: its methods as pure programs, and that the machine runs so (ledBy, maySwap, swaps, swap, mayPass, moneyOf, laysFacts, both, worthAt, mendsAs, gets, poorest, spendsAs, passes, day, allHarm, goesHome): printed by gen.py -/
def m5_ledBy_b2 (a1 a2 : Int) (a3 : Int) (bk2 : (Int) → MM Int) : MM Int :=
  pbnd (mrd 14 1656 (((a1 + 28)) + a3)) fun v12 =>
  pite (w32 v12 = w32 a2) (
    pret (w32 a3)) (
    bk2 (a3 + 1))
def m5_ledBy_l2 (a1 a2 a3 : Int) : MM Int :=
  ploop (fun (s : (Int)) bk2 => m5_ledBy_b2 a1 a2 s bk2) (a3)
def m5_ledBy (a1 a2 : Int) : MM Int :=
  m5_ledBy_l2 a1 a2 0
set_option maxHeartbeats 4000000 in
set_option maxRecDepth 100000 in
theorem met5_ledBy (l : Launch) (g : MG) (a1 a2 : Int) : MMet l g yX5_ledBy cX5_ledBy 4 (Option.some Jvm.ClassFile.FieldType.int) (0) [.ref (g.2.2), .int (iI a1), .int (iI a2)] (m5_ledBy a1 a2) rvI := by
  refine mj_start (by decide +kernel) rfl (Nat.le_of_ble_eq_true rfl) (fun X Q hl C K hQ hR hr => ?_)
  subst hl
  show GJ X 4 (mWo g (cx_s X).heap) Q (m5_ledBy a1 a2) 0 [(0, .ref (g.2.2)), (1, .int (iI a1)), (2, .int (iI a2))] []
  have J2 : ∀ (a1 a2 a3 : Int), GJ X 4 (mWo g (cx_s X).heap) Q (m5_ledBy_l2 a1 a2 a3) 2 [(0, .ref (g.2.2)), (1, .int (iI a1)), (2, .int (iI a2)), (3, .int (iI a3))] [] := by
    intro a1 a2 a3
    unfold m5_ledBy_l2
    refine gj_loop (fun (s : (Int)) => [(0, .ref (g.2.2)), (1, .int (iI a1)), (2, .int (iI a2)), (3, .int (iI s))]) (a3) (fun bk2 hb2 s => ?_)
    obtain ⟨a3, rfl⟩ : ∃ z, z = s := ⟨s, rfl⟩
    show GJ X 4 (mWo g (cx_s X).heap) Q (m5_ledBy_b2 a1 a2 a3 bk2) 2 [(0, .ref (g.2.2)), (1, .int (iI a1)), (2, .int (iI a2)), (3, .int (iI a3))] []
    unfold m5_ledBy_b2
    refine gj_aload_n C dX5_ledBy_2 0 rfl ?_
    refine mj_getR (kf := 23) (j := 14) C K dX5_ledBy_3 (by decide) (by decide) rfl (by decide) q1894 rfl ?_
    refine gj_iload_n C dX5_ledBy_6 1 rfl ?_
    refine gj_bipush C dX5_ledBy_7 rfl ?_
    refine gj_iadd C dX5_ledBy_9 ?_
    refine gj_iload_n C dX5_ledBy_10 3 rfl ?_
    refine gj_iadd C dX5_ledBy_11 ?_
    refine mj_iald (j := 14) C K dX5_ledBy_12 (by decide) rfl (fun v12 => ?_)
    refine gj_iload_n C dX5_ledBy_13 2 rfl ?_
    refine gj_icmp_eq (tgt := 23) C dX5_ledBy_14 (by decide) rfl rfl (fun h14 => gj_pos h14 ?_) (fun h14 => gj_neg h14 ?_)
    · refine gj_iload_n C dX5_ledBy_23 3 rfl ?_
      refine gj_nrmI ?_
      exact mj_iret C hQ hr dX5_ledBy_24
    · refine gj_iinc (L' := [(3, _), (0, _), (1, _), (2, _)]) C dX5_ledBy_17 3 rfl (by decide) rfl ?_
      refine gj_goto (tgt := 2) C dX5_ledBy_20 (by decide) ?_
      exact gj_to [1, 2, 3, 0] (hb2 (a3 + 1)) rfl
  unfold m5_ledBy
  refine gj_iconst C dX5_ledBy_0 ?_
  refine gj_istore_n (L' := [(3, _), (0, _), (1, _), (2, _)]) C dX5_ledBy_1 (by decide) rfl ?_
  exact gj_to [1, 2, 3, 0] (J2 a1 a2 0) rfl
def m5_maySwap (a1 a2 a3 : Int) : MM Int :=
  pbnd (mrd 14 1656 (a1 + 0)) fun v7 =>
  pite (w32 v7 = 1) (
    pite (w32 a2 = w32 a3) (
      pbnd (pzo 0) fun _ => pret 0) (
      pbnd (m5_ledBy a1 a3) fun v22 =>
      pbnd (m5_mayBe a2 v22) fun v25 =>
      pite (w32 v25 = 0) (
        pbnd (pzo 0) fun _ => pret 0) (
        pbnd (m5_ledBy a1 a2) fun v36 =>
        pbnd (m5_mayBe a3 v36) fun v39 =>
        pite (w32 v39 = 0) (
          pbnd (pzo 0) fun _ => pret 0) (
          pbnd (pzo 1) fun _ => pret 1)))) (
    pbnd (pzo 0) fun _ => pret 0)
set_option maxHeartbeats 4000000 in
set_option maxRecDepth 100000 in
theorem met5_maySwap (l : Launch) (g : MG) (a1 a2 a3 : Int) : MMet l g yX5_maySwap cX5_maySwap 4 (Option.some Jvm.ClassFile.FieldType.boolean) (1) [.ref (g.2.2), .int (iI a1), .int (iI a2), .int (iI a3)] (m5_maySwap a1 a2 a3) rvI := by
  refine mj_start (by decide +kernel) rfl (Nat.le_of_ble_eq_true rfl) (fun X Q hl C K hQ hR hr => ?_)
  subst hl
  show GJ X 4 (mWo g (cx_s X).heap) Q (m5_maySwap a1 a2 a3) 0 [(0, .ref (g.2.2)), (1, .int (iI a1)), (2, .int (iI a2)), (3, .int (iI a3))] []
  unfold m5_maySwap
  refine gj_aload_n C dX5_maySwap_0 0 rfl ?_
  refine mj_getR (kf := 23) (j := 14) C K dX5_maySwap_1 (by decide) (by decide) rfl (by decide) q1894 rfl ?_
  refine gj_iload_n C dX5_maySwap_4 1 rfl ?_
  refine gj_iconst C dX5_maySwap_5 ?_
  refine gj_iadd C dX5_maySwap_6 ?_
  refine mj_iald (j := 14) C K dX5_maySwap_7 (by decide) rfl (fun v7 => ?_)
  refine gj_iconst C dX5_maySwap_8 ?_
  refine gj_icmp_ne (tgt := 49) (b' := 1) C dX5_maySwap_9 (by decide) rfl (by decide) (fun h9 => gj_neg h9 ?_) (fun h9 => gj_pos h9 ?_)
  · refine gj_iconst C dX5_maySwap_49 ?_
    exact mj_zret C hQ hr dX5_maySwap_50
  · refine gj_iload_n C dX5_maySwap_12 2 rfl ?_
    refine gj_iload_n C dX5_maySwap_13 3 rfl ?_
    refine gj_icmp_eq (tgt := 49) C dX5_maySwap_14 (by decide) rfl rfl (fun h14 => gj_pos h14 ?_) (fun h14 => gj_neg h14 ?_)
    · refine gj_iconst C dX5_maySwap_49 ?_
      exact mj_zret C hQ hr dX5_maySwap_50
    · refine gj_aload_n C dX5_maySwap_17 0 rfl ?_
      refine gj_iload_n C dX5_maySwap_18 2 rfl ?_
      refine gj_aload_n C dX5_maySwap_19 0 rfl ?_
      refine gj_iload_n C dX5_maySwap_20 1 rfl ?_
      refine gj_iload_n C dX5_maySwap_21 3 rfl ?_
      refine mj_callVI (As := [.int (iI a1), .int (iI a3)]) (rest := [.int (iI a2), .ref (g.2.2)]) C K dX5_maySwap_22 (met5_ledBy (cx_l X) g a1 a3) (lw_V q2205 q2207 qs97 q134 q2208) hy5_ledBy hR (Nat.le_of_ble_eq_true rfl) (by decide) rfl rfl (Nat.le_of_ble_eq_true rfl) (fun v22 => ?_)
      refine mj_callVI (As := [.int (iI a2), .int (iI v22)]) (rest := []) C K dX5_maySwap_25 (met5_mayBe (cx_l X) g a2 v22) (lw_V q1867 q1869 qs59 q134 q1870) hy5_mayBe hR (Nat.le_of_ble_eq_true rfl) (by decide) rfl rfl (Nat.zero_le _) (fun v25 => ?_)
      refine gj_if_eq (tgt := 49) C dX5_maySwap_28 (by decide) (fun h28 => gj_pos h28 ?_) (fun h28 => gj_neg h28 ?_)
      · refine gj_iconst C dX5_maySwap_49 ?_
        exact mj_zret C hQ hr dX5_maySwap_50
      · refine gj_aload_n C dX5_maySwap_31 0 rfl ?_
        refine gj_iload_n C dX5_maySwap_32 3 rfl ?_
        refine gj_aload_n C dX5_maySwap_33 0 rfl ?_
        refine gj_iload_n C dX5_maySwap_34 1 rfl ?_
        refine gj_iload_n C dX5_maySwap_35 2 rfl ?_
        refine mj_callVI (As := [.int (iI a1), .int (iI a2)]) (rest := [.int (iI a3), .ref (g.2.2)]) C K dX5_maySwap_36 (met5_ledBy (cx_l X) g a1 a2) (lw_V q2205 q2207 qs97 q134 q2208) hy5_ledBy hR (Nat.le_of_ble_eq_true rfl) (by decide) rfl rfl (Nat.le_of_ble_eq_true rfl) (fun v36 => ?_)
        refine mj_callVI (As := [.int (iI a3), .int (iI v36)]) (rest := []) C K dX5_maySwap_39 (met5_mayBe (cx_l X) g a3 v36) (lw_V q1867 q1869 qs59 q134 q1870) hy5_mayBe hR (Nat.le_of_ble_eq_true rfl) (by decide) rfl rfl (Nat.zero_le _) (fun v39 => ?_)
        refine gj_if_eq (tgt := 49) C dX5_maySwap_42 (by decide) (fun h42 => gj_pos h42 ?_) (fun h42 => gj_neg h42 ?_)
        · refine gj_iconst C dX5_maySwap_49 ?_
          exact mj_zret C hQ hr dX5_maySwap_50
        · refine gj_iconst C dX5_maySwap_45 ?_
          refine gj_goto (tgt := 50) C dX5_maySwap_46 (by decide) ?_
          exact mj_zret C hQ hr dX5_maySwap_50
def m5_swaps (a1 a2 a3 : Int) : MM Unit :=
  pbnd (m5_ledBy a1 a2) fun v3 =>
  pbnd (m5_ledBy a1 a3) fun v11 =>
  pbnd (mwr 14 1656 (((a1 + 28)) + v3) (w32 a3)) fun _ =>
  pbnd (mwr 14 1656 (((a1 + 28)) + v11) (w32 a2)) fun _ =>
  pret ()
set_option maxHeartbeats 4000000 in
set_option maxRecDepth 100000 in
theorem met5_swaps (l : Launch) (g : MG) (a1 a2 a3 : Int) : MMet l g yX5_swaps cX5_swaps 6 (Option.none : Option Jvm.ClassFile.FieldType) (1) [.ref (g.2.2), .int (iI a1), .int (iI a2), .int (iI a3)] (m5_swaps a1 a2 a3) rvV := by
  refine mj_start (by decide +kernel) rfl (Nat.le_of_ble_eq_true rfl) (fun X Q hl C K hQ hR hr => ?_)
  subst hl
  show GJ X 6 (mWo g (cx_s X).heap) Q (m5_swaps a1 a2 a3) 0 [(0, .ref (g.2.2)), (1, .int (iI a1)), (2, .int (iI a2)), (3, .int (iI a3))] []
  unfold m5_swaps
  refine gj_aload_n C dX5_swaps_0 0 rfl ?_
  refine gj_iload_n C dX5_swaps_1 1 rfl ?_
  refine gj_iload_n C dX5_swaps_2 2 rfl ?_
  refine mj_callVI (As := [.int (iI a1), .int (iI a2)]) (rest := []) C K dX5_swaps_3 (met5_ledBy (cx_l X) g a1 a2) (lw_V q2205 q2207 qs97 q134 q2208) hy5_ledBy hR (Nat.le_of_ble_eq_true rfl) (by decide) rfl rfl (Nat.zero_le _) (fun v3 => ?_)
  refine gj_istore (L' := [(4, _), (0, _), (1, _), (2, _), (3, _)]) C dX5_swaps_6 (by decide) rfl ?_
  refine gj_aload_n C dX5_swaps_8 1 rfl ?_
  refine gj_iload_n C dX5_swaps_9 2 rfl ?_
  refine gj_iload_n C dX5_swaps_10 4 rfl ?_
  refine mj_callVI (As := [.int (iI a1), .int (iI a3)]) (rest := []) C K dX5_swaps_11 (met5_ledBy (cx_l X) g a1 a3) (lw_V q2205 q2207 qs97 q134 q2208) hy5_ledBy hR (Nat.le_of_ble_eq_true rfl) (by decide) rfl rfl (Nat.zero_le _) (fun v11 => ?_)
  refine gj_istore (L' := [(5, _), (4, _), (0, _), (1, _), (2, _), (3, _)]) C dX5_swaps_14 (by decide) rfl ?_
  refine gj_aload_n C dX5_swaps_16 2 rfl ?_
  refine mj_getR (kf := 23) (j := 14) C K dX5_swaps_17 (by decide) (by decide) rfl (by decide) q1894 rfl ?_
  refine gj_iload_n C dX5_swaps_20 3 rfl ?_
  refine gj_bipush C dX5_swaps_21 rfl ?_
  refine gj_iadd C dX5_swaps_23 ?_
  refine gj_iload C dX5_swaps_24 1 rfl ?_
  refine gj_iadd C dX5_swaps_26 ?_
  refine gj_iload_n C dX5_swaps_27 5 rfl ?_
  refine gj_nrmI ?_
  refine mj_iast (j := 14) C K dX5_swaps_28 (by decide) (by decide) rfl ?_
  refine gj_aload_n C dX5_swaps_29 2 rfl ?_
  refine mj_getR (kf := 23) (j := 14) C K dX5_swaps_30 (by decide) (by decide) rfl (by decide) q1894 rfl ?_
  refine gj_iload_n C dX5_swaps_33 3 rfl ?_
  refine gj_bipush C dX5_swaps_34 rfl ?_
  refine gj_iadd C dX5_swaps_36 ?_
  refine gj_iload C dX5_swaps_37 0 rfl ?_
  refine gj_iadd C dX5_swaps_39 ?_
  refine gj_iload_n C dX5_swaps_40 4 rfl ?_
  refine gj_nrmI ?_
  refine mj_iast (j := 14) C K dX5_swaps_41 (by decide) (by decide) rfl ?_
  exact mj_vret C hQ hr dX5_swaps_42
def m5_swap (a1 a2 : Int) : MM Int :=
  pbnd (mput 0 0) fun _ =>
  pbnd (m5_isPerson a1) fun v7 =>
  pite (w32 v7 = 0) (
    pbnd (pzo 0) fun _ => pret 0) (
    pbnd (m5_isPerson a2) fun v15 =>
    pite (w32 v15 = 0) (
      pbnd (pzo 0) fun _ => pret 0) (
      pbnd (m5_maySwap 0 a1 a2) fun v25 =>
      pite (w32 v25 = 0) (
        pbnd (pzo 0) fun _ => pret 0) (
        pbnd (m5_keeps) fun _ =>
        pbnd (m5_swaps 0 a1 a2) fun _ =>
        pbnd (pzo 1) fun _ => pret 1)))
set_option maxHeartbeats 4000000 in
set_option maxRecDepth 100000 in
theorem met5_swap (l : Launch) (g : MG) (a1 a2 : Int) : MMet l g yX5_swap cX5_swap 3 (Option.some Jvm.ClassFile.FieldType.boolean) (2) [.ref (g.2.2), .int (iI a1), .int (iI a2)] (m5_swap a1 a2) rvI := by
  refine mj_start (by decide +kernel) rfl (Nat.le_of_ble_eq_true rfl) (fun X Q hl C K hQ hR hr => ?_)
  subst hl
  show GJ X 3 (mWo g (cx_s X).heap) Q (m5_swap a1 a2) 0 [(0, .ref (g.2.2)), (1, .int (iI a1)), (2, .int (iI a2))] []
  unfold m5_swap
  refine gj_aload_n C dX5_swap_0 0 rfl ?_
  refine gj_iconst C dX5_swap_1 ?_
  refine mj_putI (kf := 0) C K dX5_swap_2 (by decide) (by decide) rfl q1871 rfl rfl (by decide +kernel) ?_
  refine gj_aload_n C dX5_swap_5 0 rfl ?_
  refine gj_iload_n C dX5_swap_6 1 rfl ?_
  refine mj_callVI (As := [.int (iI a1)]) (rest := []) C K dX5_swap_7 (met5_isPerson (cx_l X) g a1) (lw_V q2138 q2140 qs87 q134 q2141) hy5_isPerson hR (Nat.le_of_ble_eq_true rfl) (by decide) rfl rfl (Nat.zero_le _) (fun v7 => ?_)
  refine gj_if_eq (tgt := 31) C dX5_swap_10 (by decide) (fun h10 => gj_pos h10 ?_) (fun h10 => gj_neg h10 ?_)
  · refine gj_iconst C dX5_swap_31 ?_
    exact mj_zret C hQ hr dX5_swap_32
  · refine gj_aload_n C dX5_swap_13 0 rfl ?_
    refine gj_iload_n C dX5_swap_14 2 rfl ?_
    refine mj_callVI (As := [.int (iI a2)]) (rest := []) C K dX5_swap_15 (met5_isPerson (cx_l X) g a2) (lw_V q2138 q2140 qs87 q134 q2141) hy5_isPerson hR (Nat.le_of_ble_eq_true rfl) (by decide) rfl rfl (Nat.zero_le _) (fun v15 => ?_)
    refine gj_if_eq (tgt := 31) C dX5_swap_18 (by decide) (fun h18 => gj_pos h18 ?_) (fun h18 => gj_neg h18 ?_)
    · refine gj_iconst C dX5_swap_31 ?_
      exact mj_zret C hQ hr dX5_swap_32
    · refine gj_aload_n C dX5_swap_21 0 rfl ?_
      refine gj_iconst C dX5_swap_22 ?_
      refine gj_iload_n C dX5_swap_23 1 rfl ?_
      refine gj_iload_n C dX5_swap_24 2 rfl ?_
      refine mj_callVI (As := [.int (iI 0), .int (iI a1), .int (iI a2)]) (rest := []) C K dX5_swap_25 (met5_maySwap (cx_l X) g 0 a1 a2) (lw_V q2201 q2203 qs96 q134 q2204) hy5_maySwap hR (Nat.le_of_ble_eq_true rfl) (by decide) rfl rfl (Nat.zero_le _) (fun v25 => ?_)
      refine gj_if_ne (tgt := 33) C dX5_swap_28 (by decide) (fun h28 => gj_neg h28 ?_) (fun h28 => gj_pos h28 ?_)
      · refine gj_aload_n C dX5_swap_33 0 rfl ?_
        refine mj_callVV (As := []) (rest := []) C K dX5_swap_34 (met5_keeps (cx_l X) g) (lw_V q2165 q2167 qs90 q134 q2168) hy5_keeps hR (Nat.le_of_ble_eq_true rfl) (by decide) rfl rfl (Nat.zero_le _) ?_
        refine gj_aload_n C dX5_swap_37 0 rfl ?_
        refine gj_iconst C dX5_swap_38 ?_
        refine gj_iload_n C dX5_swap_39 1 rfl ?_
        refine gj_iload_n C dX5_swap_40 2 rfl ?_
        refine mj_callVV (As := [.int (iI 0), .int (iI a1), .int (iI a2)]) (rest := []) C K dX5_swap_41 (met5_swaps (cx_l X) g 0 a1 a2) (lw_V q2209 q2211 qs98 q134 q2212) hy5_swaps hR (Nat.le_of_ble_eq_true rfl) (by decide) rfl rfl (Nat.zero_le _) ?_
        refine gj_iconst C dX5_swap_44 ?_
        exact mj_zret C hQ hr dX5_swap_45
      · refine gj_iconst C dX5_swap_31 ?_
        exact mj_zret C hQ hr dX5_swap_32
def m5_mayPass (a1 : Int) : MM Int :=
  pbnd (mrd 14 1656 (a1 + 0)) fun v7 =>
  pite (w32 v7 = 1) (
    pbnd (mrd 14 1656 (a1 + 1)) fun v19 =>
    pite (w32 v19 < 7) (
      pbnd (pzo 1) fun _ => pret 1) (
      pbnd (pzo 0) fun _ => pret 0)) (
    pbnd (pzo 0) fun _ => pret 0)
set_option maxHeartbeats 4000000 in
set_option maxRecDepth 100000 in
theorem met5_mayPass (l : Launch) (g : MG) (a1 : Int) : MMet l g yX5_mayPass cX5_mayPass 2 (Option.some Jvm.ClassFile.FieldType.boolean) (0) [.ref (g.2.2), .int (iI a1)] (m5_mayPass a1) rvI := by
  refine mj_start (by decide +kernel) rfl (Nat.le_of_ble_eq_true rfl) (fun X Q hl C K hQ hR hr => ?_)
  subst hl
  show GJ X 2 (mWo g (cx_s X).heap) Q (m5_mayPass a1) 0 [(0, .ref (g.2.2)), (1, .int (iI a1))] []
  unfold m5_mayPass
  refine gj_aload_n C dX5_mayPass_0 0 rfl ?_
  refine mj_getR (kf := 23) (j := 14) C K dX5_mayPass_1 (by decide) (by decide) rfl (by decide) q1894 rfl ?_
  refine gj_iload_n C dX5_mayPass_4 1 rfl ?_
  refine gj_iconst C dX5_mayPass_5 ?_
  refine gj_iadd C dX5_mayPass_6 ?_
  refine mj_iald (j := 14) C K dX5_mayPass_7 (by decide) rfl (fun v7 => ?_)
  refine gj_iconst C dX5_mayPass_8 ?_
  refine gj_icmp_ne (tgt := 29) (b' := 1) C dX5_mayPass_9 (by decide) rfl (by decide) (fun h9 => gj_neg h9 ?_) (fun h9 => gj_pos h9 ?_)
  · refine gj_iconst C dX5_mayPass_29 ?_
    exact mj_zret C hQ hr dX5_mayPass_30
  · refine gj_aload_n C dX5_mayPass_12 0 rfl ?_
    refine mj_getR (kf := 23) (j := 14) C K dX5_mayPass_13 (by decide) (by decide) rfl (by decide) q1894 rfl ?_
    refine gj_iload_n C dX5_mayPass_16 1 rfl ?_
    refine gj_iconst C dX5_mayPass_17 ?_
    refine gj_iadd C dX5_mayPass_18 ?_
    refine mj_iald (j := 14) C K dX5_mayPass_19 (by decide) rfl (fun v19 => ?_)
    refine gj_bipush C dX5_mayPass_20 rfl ?_
    refine gj_icmp_ge (tgt := 29) (b' := 7) C dX5_mayPass_22 (by decide) rfl (by decide) (fun h22 => gj_neg h22 ?_) (fun h22 => gj_pos h22 ?_)
    · refine gj_iconst C dX5_mayPass_29 ?_
      exact mj_zret C hQ hr dX5_mayPass_30
    · refine gj_iconst C dX5_mayPass_25 ?_
      refine gj_goto (tgt := 30) C dX5_mayPass_26 (by decide) ?_
      exact mj_zret C hQ hr dX5_mayPass_30
def m5_moneyOf_j29 (s0 s1 : Int) : MM Int :=
  plet (s0 - s1) fun x30 =>
  plet (if w32 x30 < 0 then 0 else x30) fun d43 =>
  pret (w32 d43)
def m5_moneyOf (a1 a2 a3 : Int) : MM Int :=
  pbnd (mrd 14 1656 (((a1 + 4)) + a2)) fun v9 =>
  pite (w32 a3 = 0) (
    pbnd (mrd 14 1656 (((a1 + 22)) + a2)) fun v28 =>
    m5_moneyOf_j29 v9 v28) (
    m5_moneyOf_j29 v9 0)
set_option maxHeartbeats 4000000 in
set_option maxRecDepth 100000 in
theorem met5_moneyOf (l : Launch) (g : MG) (a1 a2 a3 : Int) : MMet l g yX5_moneyOf cX5_moneyOf 5 (Option.some Jvm.ClassFile.FieldType.int) (0) [.ref (g.2.2), .int (iI a1), .int (iI a2), .int (iI a3)] (m5_moneyOf a1 a2 a3) rvI := by
  refine mj_start (by decide +kernel) rfl (Nat.le_of_ble_eq_true rfl) (fun X Q hl C K hQ hR hr => ?_)
  subst hl
  show GJ X 5 (mWo g (cx_s X).heap) Q (m5_moneyOf a1 a2 a3) 0 [(0, .ref (g.2.2)), (1, .int (iI a1)), (2, .int (iI a2)), (3, .int (iI a3))] []
  have J29 : ∀ (s0 s1 : Int), GJ X 5 (mWo g (cx_s X).heap) Q (m5_moneyOf_j29 s0 s1) 29 [] [.int (iI s1), .int (iI s0)] := by
    intro s0 s1
    unfold m5_moneyOf_j29
    refine gj_isub C dX5_moneyOf_29 ?_
    refine gj_let (fun x30 => ?_)
    refine gj_istore (L' := [(4, _)]) C dX5_moneyOf_30 (by decide) rfl ?_
    refine gj_iload C dX5_moneyOf_32 0 rfl ?_
    refine gj_dia (J := 43) (L := [(4, .int (iI x30))]) (st := []) (fun d43 => ?_) (fun t hJ => ?_)
    · skip
      refine gj_nrmI ?_
      exact mj_iret C hQ hr dX5_moneyOf_43
    · refine gj_if_ge (tgt := 41) C dX5_moneyOf_34 (by decide) (fun h34 => ?_) (fun h34 => ?_)
      · refine gj_iload C dX5_moneyOf_41 0 rfl ?_
        exact (by rw [if_neg h34] at hJ; exact hJ)
      · refine gj_iconst C dX5_moneyOf_37 ?_
        refine gj_goto (tgt := 43) C dX5_moneyOf_38 (by decide) ?_
        exact (by rw [if_pos h34] at hJ; exact hJ)
  unfold m5_moneyOf
  refine gj_aload_n C dX5_moneyOf_0 0 rfl ?_
  refine mj_getR (kf := 23) (j := 14) C K dX5_moneyOf_1 (by decide) (by decide) rfl (by decide) q1894 rfl ?_
  refine gj_iload_n C dX5_moneyOf_4 1 rfl ?_
  refine gj_iconst C dX5_moneyOf_5 ?_
  refine gj_iadd C dX5_moneyOf_6 ?_
  refine gj_iload_n C dX5_moneyOf_7 2 rfl ?_
  refine gj_iadd C dX5_moneyOf_8 ?_
  refine mj_iald (j := 14) C K dX5_moneyOf_9 (by decide) rfl (fun v9 => ?_)
  refine gj_iload_n C dX5_moneyOf_10 3 rfl ?_
  refine gj_if_eq (tgt := 18) C dX5_moneyOf_11 (by decide) (fun h11 => gj_pos h11 ?_) (fun h11 => gj_neg h11 ?_)
  · refine gj_aload_n C dX5_moneyOf_18 0 rfl ?_
    refine mj_getR (kf := 23) (j := 14) C K dX5_moneyOf_19 (by decide) (by decide) rfl (by decide) q1894 rfl ?_
    refine gj_iload_n C dX5_moneyOf_22 1 rfl ?_
    refine gj_bipush C dX5_moneyOf_23 rfl ?_
    refine gj_iadd C dX5_moneyOf_25 ?_
    refine gj_iload_n C dX5_moneyOf_26 2 rfl ?_
    refine gj_iadd C dX5_moneyOf_27 ?_
    refine mj_iald (j := 14) C K dX5_moneyOf_28 (by decide) rfl (fun v28 => ?_)
    exact gj_to [] (J29 v9 v28) rfl
  · refine gj_iconst C dX5_moneyOf_14 ?_
    refine gj_goto (tgt := 29) C dX5_moneyOf_15 (by decide) ?_
    exact gj_to [] (J29 v9 0) rfl
def m5_laysFacts (a1 a2 a3 a4 : Int) : MM Unit :=
  pbnd (m5_moneyOf a1 a2 a4) fun v10 =>
  pbnd (mwr 12 5 0 v10) fun _ =>
  pbnd (mrd 14 1656 (((a1 + 10)) + a2)) fun v29 =>
  pbnd (mwr 12 5 1 v29) fun _ =>
  pbnd (mrd 14 1656 (((a1 + 16)) + a2)) fun v46 =>
  pbnd (mwr 12 5 2 v46) fun _ =>
  pbnd (m5_personOf a3 1) fun v56 =>
  pbnd (mwr 12 5 3 v56) fun _ =>
  pbnd (m5_personOf a3 0) fun v68 =>
  pbnd (mwr 12 5 4 v68) fun _ =>
  pret ()
set_option maxHeartbeats 4000000 in
set_option maxRecDepth 100000 in
theorem met5_laysFacts (l : Launch) (g : MG) (a1 a2 a3 a4 : Int) : MMet l g yX5_laysFacts cX5_laysFacts 5 (Option.none : Option Jvm.ClassFile.FieldType) (1) [.ref (g.2.2), .int (iI a1), .int (iI a2), .int (iI a3), .int (iI a4)] (m5_laysFacts a1 a2 a3 a4) rvV := by
  refine mj_start (by decide +kernel) rfl (Nat.le_of_ble_eq_true rfl) (fun X Q hl C K hQ hR hr => ?_)
  subst hl
  show GJ X 5 (mWo g (cx_s X).heap) Q (m5_laysFacts a1 a2 a3 a4) 0 [(0, .ref (g.2.2)), (1, .int (iI a1)), (2, .int (iI a2)), (3, .int (iI a3)), (4, .int (iI a4))] []
  unfold m5_laysFacts
  refine gj_aload_n C dX5_laysFacts_0 0 rfl ?_
  refine mj_getR (kf := 21) (j := 12) C K dX5_laysFacts_1 (by decide) (by decide) rfl (by decide) q1892 rfl ?_
  refine gj_iconst C dX5_laysFacts_4 ?_
  refine gj_aload_n C dX5_laysFacts_5 0 rfl ?_
  refine gj_iload_n C dX5_laysFacts_6 1 rfl ?_
  refine gj_iload_n C dX5_laysFacts_7 2 rfl ?_
  refine gj_iload C dX5_laysFacts_8 4 rfl ?_
  refine mj_callVI (As := [.int (iI a1), .int (iI a2), .int (iI a4)]) (rest := [.int (iI 0), .ref (g.2.2 + 12)]) C K dX5_laysFacts_10 (met5_moneyOf (cx_l X) g a1 a2 a4) (lw_V q2233 q2235 qs103 q134 q2236) hy5_moneyOf hR (Nat.le_of_ble_eq_true rfl) (by decide) rfl rfl (Nat.le_of_ble_eq_true rfl) (fun v10 => ?_)
  refine mj_iast (j := 12) C K dX5_laysFacts_13 (by decide) (by decide) rfl ?_
  refine gj_aload_n C dX5_laysFacts_14 0 rfl ?_
  refine mj_getR (kf := 21) (j := 12) C K dX5_laysFacts_15 (by decide) (by decide) rfl (by decide) q1892 rfl ?_
  refine gj_iconst C dX5_laysFacts_18 ?_
  refine gj_aload_n C dX5_laysFacts_19 0 rfl ?_
  refine mj_getR (kf := 23) (j := 14) C K dX5_laysFacts_20 (by decide) (by decide) rfl (by decide) q1894 rfl ?_
  refine gj_iload_n C dX5_laysFacts_23 1 rfl ?_
  refine gj_bipush C dX5_laysFacts_24 rfl ?_
  refine gj_iadd C dX5_laysFacts_26 ?_
  refine gj_iload_n C dX5_laysFacts_27 2 rfl ?_
  refine gj_iadd C dX5_laysFacts_28 ?_
  refine mj_iald (j := 14) C K dX5_laysFacts_29 (by decide) rfl (fun v29 => ?_)
  refine mj_iast (j := 12) C K dX5_laysFacts_30 (by decide) (by decide) rfl ?_
  refine gj_aload_n C dX5_laysFacts_31 0 rfl ?_
  refine mj_getR (kf := 21) (j := 12) C K dX5_laysFacts_32 (by decide) (by decide) rfl (by decide) q1892 rfl ?_
  refine gj_iconst C dX5_laysFacts_35 ?_
  refine gj_aload_n C dX5_laysFacts_36 0 rfl ?_
  refine mj_getR (kf := 23) (j := 14) C K dX5_laysFacts_37 (by decide) (by decide) rfl (by decide) q1894 rfl ?_
  refine gj_iload_n C dX5_laysFacts_40 1 rfl ?_
  refine gj_bipush C dX5_laysFacts_41 rfl ?_
  refine gj_iadd C dX5_laysFacts_43 ?_
  refine gj_iload_n C dX5_laysFacts_44 2 rfl ?_
  refine gj_iadd C dX5_laysFacts_45 ?_
  refine mj_iald (j := 14) C K dX5_laysFacts_46 (by decide) rfl (fun v46 => ?_)
  refine mj_iast (j := 12) C K dX5_laysFacts_47 (by decide) (by decide) rfl ?_
  refine gj_aload_n C dX5_laysFacts_48 0 rfl ?_
  refine mj_getR (kf := 21) (j := 12) C K dX5_laysFacts_49 (by decide) (by decide) rfl (by decide) q1892 rfl ?_
  refine gj_iconst C dX5_laysFacts_52 ?_
  refine gj_aload_n C dX5_laysFacts_53 0 rfl ?_
  refine gj_iload_n C dX5_laysFacts_54 3 rfl ?_
  refine gj_iconst C dX5_laysFacts_55 ?_
  refine mj_callVI (As := [.int (iI a3), .int (iI 1)]) (rest := [.int (iI 3), .ref (g.2.2 + 12)]) C K dX5_laysFacts_56 (met5_personOf (cx_l X) g a3 1) (lw_V q1855 q1857 qs56 q134 q1858) hy5_personOf hR (Nat.le_of_ble_eq_true rfl) (by decide) rfl rfl (Nat.le_of_ble_eq_true rfl) (fun v56 => ?_)
  refine mj_iast (j := 12) C K dX5_laysFacts_59 (by decide) (by decide) rfl ?_
  refine gj_aload_n C dX5_laysFacts_60 0 rfl ?_
  refine mj_getR (kf := 21) (j := 12) C K dX5_laysFacts_61 (by decide) (by decide) rfl (by decide) q1892 rfl ?_
  refine gj_iconst C dX5_laysFacts_64 ?_
  refine gj_aload_n C dX5_laysFacts_65 0 rfl ?_
  refine gj_iload_n C dX5_laysFacts_66 3 rfl ?_
  refine gj_iconst C dX5_laysFacts_67 ?_
  refine mj_callVI (As := [.int (iI a3), .int (iI 0)]) (rest := [.int (iI 4), .ref (g.2.2 + 12)]) C K dX5_laysFacts_68 (met5_personOf (cx_l X) g a3 0) (lw_V q1855 q1857 qs56 q134 q1858) hy5_personOf hR (Nat.le_of_ble_eq_true rfl) (by decide) rfl rfl (Nat.le_of_ble_eq_true rfl) (fun v68 => ?_)
  refine mj_iast (j := 12) C K dX5_laysFacts_71 (by decide) (by decide) rfl ?_
  exact mj_vret C hQ hr dX5_laysFacts_72
def m5_both (a0 a1 a2 : Int) : MM Int :=
  pite (w32 a0 = 4) (
    pret (w32 (a1 + a2))) (
    pite (w32 a0 = 5) (
      pret (w32 (a1 - a2))) (
      pite (w32 a0 = 6) (
        pret (w32 (a1 * a2))) (
        pite (w32 a0 = 7) (
          plet (if w32 a1 < w32 a2 then 1 else 0) fun d62 =>
          pret (w32 d62)) (
          pite (w32 a0 = 8) (
            plet (if w32 a1 = w32 a2 then 1 else 0) fun d73 =>
            pret (w32 d73)) (
            pite (w32 a0 = 9) (
              plet (if w32 a1 = 0 then 0 else if w32 a2 = 0 then 0 else 1) fun d87 =>
              pret (w32 d87)) (
              plet (if w32 a1 = 0 then if w32 a2 = 0 then 0 else 1 else 1) fun d101 =>
              pret (w32 d101)))))))
set_option maxHeartbeats 4000000 in
set_option maxRecDepth 100000 in
theorem met5_both (l : Launch) (g : MG) (a0 a1 a2 : Int) : MMet l g yX5_both cX5_both 3 (Option.some Jvm.ClassFile.FieldType.int) (0) [.int (iI a0), .int (iI a1), .int (iI a2)] (m5_both a0 a1 a2) rvI := by
  refine mj_start (by decide +kernel) rfl (Nat.le_of_ble_eq_true rfl) (fun X Q hl C K hQ hR hr => ?_)
  subst hl
  show GJ X 3 (mWo g (cx_s X).heap) Q (m5_both a0 a1 a2) 0 [(0, .int (iI a0)), (1, .int (iI a1)), (2, .int (iI a2))] []
  unfold m5_both
  refine gj_iload_n C dX5_both_0 0 rfl ?_
  by_cases h1_0 : w32 a0 = 4
  · refine gj_pos h1_0 ?_
    refine gj_tin (tgt := 40) C 4 h1_0 dX5_both_1 (by decide) (by decide) rfl (by decide) ?_
    refine gj_iload_n C dX5_both_40 1 rfl ?_
    refine gj_iload_n C dX5_both_41 2 rfl ?_
    refine gj_iadd C dX5_both_42 ?_
    refine gj_nrmI ?_
    exact mj_iret C hQ hr dX5_both_43
  · refine gj_neg h1_0 ?_
    by_cases h1_1 : w32 a0 = 5
    · refine gj_pos h1_1 ?_
      refine gj_tin (tgt := 44) C 5 h1_1 dX5_both_1 (by decide) (by decide) rfl (by decide) ?_
      refine gj_iload_n C dX5_both_44 1 rfl ?_
      refine gj_iload_n C dX5_both_45 2 rfl ?_
      refine gj_isub C dX5_both_46 ?_
      refine gj_nrmI ?_
      exact mj_iret C hQ hr dX5_both_47
    · refine gj_neg h1_1 ?_
      by_cases h1_2 : w32 a0 = 6
      · refine gj_pos h1_2 ?_
        refine gj_tin (tgt := 48) C 6 h1_2 dX5_both_1 (by decide) (by decide) rfl (by decide) ?_
        refine gj_iload_n C dX5_both_48 1 rfl ?_
        refine gj_iload_n C dX5_both_49 2 rfl ?_
        refine gj_imul C dX5_both_50 ?_
        refine gj_nrmI ?_
        exact mj_iret C hQ hr dX5_both_51
      · refine gj_neg h1_2 ?_
        by_cases h1_3 : w32 a0 = 7
        · refine gj_pos h1_3 ?_
          refine gj_tin (tgt := 52) C 7 h1_3 dX5_both_1 (by decide) (by decide) rfl (by decide) ?_
          refine gj_iload_n C dX5_both_52 1 rfl ?_
          refine gj_iload_n C dX5_both_53 2 rfl ?_
          refine gj_dia (J := 62) (L := [(0, .int (iI a0)), (1, .int (iI a1)), (2, .int (iI a2))]) (st := []) (fun d62 => ?_) (fun t hJ => ?_)
          · skip
            refine gj_nrmI ?_
            exact mj_iret C hQ hr dX5_both_62
          · refine gj_icmp_ge (tgt := 61) C dX5_both_54 (by decide) rfl rfl (fun h54 => ?_) (fun h54 => ?_)
            · refine gj_iconst C dX5_both_61 ?_
              exact (by rw [if_neg h54] at hJ; exact hJ)
            · refine gj_iconst C dX5_both_57 ?_
              refine gj_goto (tgt := 62) C dX5_both_58 (by decide) ?_
              exact (by rw [if_pos h54] at hJ; exact hJ)
        · refine gj_neg h1_3 ?_
          by_cases h1_4 : w32 a0 = 8
          · refine gj_pos h1_4 ?_
            refine gj_tin (tgt := 63) C 8 h1_4 dX5_both_1 (by decide) (by decide) rfl (by decide) ?_
            refine gj_iload_n C dX5_both_63 1 rfl ?_
            refine gj_iload_n C dX5_both_64 2 rfl ?_
            refine gj_dia (J := 73) (L := [(0, .int (iI a0)), (1, .int (iI a1)), (2, .int (iI a2))]) (st := []) (fun d73 => ?_) (fun t hJ => ?_)
            · skip
              refine gj_nrmI ?_
              exact mj_iret C hQ hr dX5_both_73
            · refine gj_icmp_ne (tgt := 72) C dX5_both_65 (by decide) rfl rfl (fun h65 => ?_) (fun h65 => ?_)
              · refine gj_iconst C dX5_both_72 ?_
                exact (by rw [if_neg h65] at hJ; exact hJ)
              · refine gj_iconst C dX5_both_68 ?_
                refine gj_goto (tgt := 73) C dX5_both_69 (by decide) ?_
                exact (by rw [if_pos h65] at hJ; exact hJ)
          · refine gj_neg h1_4 ?_
            by_cases h1_5 : w32 a0 = 9
            · refine gj_pos h1_5 ?_
              refine gj_tin (tgt := 74) C 9 h1_5 dX5_both_1 (by decide) (by decide) rfl (by decide) ?_
              refine gj_iload_n C dX5_both_74 1 rfl ?_
              refine gj_dia (J := 87) (L := [(0, .int (iI a0)), (1, .int (iI a1)), (2, .int (iI a2))]) (st := []) (fun d87 => ?_) (fun t hJ => ?_)
              · skip
                refine gj_nrmI ?_
                exact mj_iret C hQ hr dX5_both_87
              · refine gj_if_eq (tgt := 86) C dX5_both_75 (by decide) (fun h75 => ?_) (fun h75 => ?_)
                · refine gj_iconst C dX5_both_86 ?_
                  exact (by rw [if_pos h75] at hJ; exact hJ)
                · refine gj_iload_n C dX5_both_78 2 rfl ?_
                  refine gj_if_eq (tgt := 86) C dX5_both_79 (by decide) (fun h79 => ?_) (fun h79 => ?_)
                  · refine gj_iconst C dX5_both_86 ?_
                    exact (by rw [if_neg h75, if_pos h79] at hJ; exact hJ)
                  · refine gj_iconst C dX5_both_82 ?_
                    refine gj_goto (tgt := 87) C dX5_both_83 (by decide) ?_
                    exact (by rw [if_neg h75, if_neg h79] at hJ; exact hJ)
            · refine gj_neg h1_5 ?_
              refine gj_tout (tgt := 88) C dX5_both_1 (by omega) (by decide) ?_
              refine gj_iload_n C dX5_both_88 1 rfl ?_
              refine gj_dia (J := 101) (L := [(0, .int (iI a0)), (1, .int (iI a1)), (2, .int (iI a2))]) (st := []) (fun d101 => ?_) (fun t hJ => ?_)
              · skip
                refine gj_nrmI ?_
                exact mj_iret C hQ hr dX5_both_101
              · refine gj_if_ne (tgt := 96) C dX5_both_89 (by decide) (fun h89 => ?_) (fun h89 => ?_)
                · refine gj_iconst C dX5_both_96 ?_
                  refine gj_goto (tgt := 101) C dX5_both_97 (by decide) ?_
                  exact (by rw [if_neg h89] at hJ; exact hJ)
                · refine gj_iload_n C dX5_both_92 2 rfl ?_
                  refine gj_if_eq (tgt := 100) C dX5_both_93 (by decide) (fun h93 => ?_) (fun h93 => ?_)
                  · refine gj_iconst C dX5_both_100 ?_
                    exact (by rw [if_pos h89, if_pos h93] at hJ; exact hJ)
                  · refine gj_iconst C dX5_both_96 ?_
                    refine gj_goto (tgt := 101) C dX5_both_97 (by decide) ?_
                    exact (by rw [if_pos h89, if_neg h93] at hJ; exact hJ)
def m5_worthAt_j134 (a2 a3 : Int) (bk4 : (Int × Int) → MM Int) : MM Int :=
  bk4 (a2, a3 + 1)
def m5_worthAt_j64 (a2 a3 s1 s2 : Int) (bk4 : (Int × Int) → MM Int) : MM Int :=
  pbnd (mwr 13 1100 s1 (w32 s2)) fun _ =>
  m5_worthAt_j134 (a2 + 1) a3 bk4
def m5_worthAt_j33 (a2 a3 a4 : Int) (bk4 : (Int × Int) → MM Int) : MM Int :=
  pite (w32 a4 = 1) (
    pbnd (mrd 8 2200 a3) fun v49 =>
    m5_worthAt_j64 a2 a3 a2 v49 bk4) (
    pbnd (mrd 8 2200 a3) fun v62 =>
    pbnd (mrd 12 5 v62) fun v63 =>
    m5_worthAt_j64 a2 a3 a2 v63 bk4)
def m5_worthAt_b4 (a2 a3 : Int) (bk4 : (Int × Int) → MM Int) : MM Int :=
  pbnd (mrd 7 2200 a3) fun v9 =>
  pite (w32 v9 = 0) (
    pbnd (mrd 13 1100 0) fun v145 =>
    pret v145) (
    pbnd (mrd 7 2200 a3) fun v18 =>
    pite (w32 v18 = 1) (
      m5_worthAt_j33 a2 a3 v18 bk4) (
      pite (w32 v18 = 2) (
        m5_worthAt_j33 a2 a3 v18 bk4) (
        pite (w32 v18 = 3) (
          pbnd (mrd 13 1100 (a2 - 1)) fun v91 =>
          plet (if w32 v91 = 0 then 1 else 0) fun d100 =>
          pbnd (mwr 13 1100 (a2 - 1) (w32 d100)) fun _ =>
          m5_worthAt_j134 a2 a3 bk4) (
          pbnd (mrd 13 1100 (((a2 + (-1))) - 1)) fun v123 =>
          pbnd (mrd 13 1100 (a2 + (-1))) fun v129 =>
          pbnd (m5_both v18 v123 v129) fun v130 =>
          pbnd (mwr 13 1100 (((a2 + (-1))) - 1) v130) fun _ =>
          m5_worthAt_j134 (a2 + (-1)) a3 bk4))))
def m5_worthAt_l4 (a2 a3 : Int) : MM Int :=
  ploop (fun (s : (Int × Int)) bk4 => m5_worthAt_b4 s.1 s.2 bk4) (a2, a3)
def m5_worthAt (a1 : Int) : MM Int :=
  m5_worthAt_l4 0 a1
set_option maxHeartbeats 4000000 in
set_option maxRecDepth 100000 in
theorem met5_worthAt (l : Launch) (g : MG) (a1 : Int) : MMet l g yX5_worthAt cX5_worthAt 5 (Option.some Jvm.ClassFile.FieldType.int) (1) [.ref (g.2.2), .int (iI a1)] (m5_worthAt a1) rvI := by
  refine mj_start (by decide +kernel) rfl (Nat.le_of_ble_eq_true rfl) (fun X Q hl C K hQ hR hr => ?_)
  subst hl
  show GJ X 5 (mWo g (cx_s X).heap) Q (m5_worthAt a1) 0 [(0, .ref (g.2.2)), (1, .int (iI a1))] []
  have J4 : ∀ (a2 a3 : Int), GJ X 5 (mWo g (cx_s X).heap) Q (m5_worthAt_l4 a2 a3) 4 [(0, .ref (g.2.2)), (2, .int (iI a2)), (3, .int (iI a3))] [] := by
    intro a2 a3
    unfold m5_worthAt_l4
    refine gj_loop (fun (s : (Int × Int)) => [(0, .ref (g.2.2)), (2, .int (iI (s.1))), (3, .int (iI (s.2)))]) (a2, a3) (fun bk4 hb4 s => ?_)
    obtain ⟨a2, a3⟩ := s
    show GJ X 5 (mWo g (cx_s X).heap) Q (m5_worthAt_b4 a2 a3 bk4) 4 [(0, .ref (g.2.2)), (2, .int (iI a2)), (3, .int (iI a3))] []
    have J134 : ∀ (a2 a3 : Int), GJ X 5 (mWo g (cx_s X).heap) Q (m5_worthAt_j134 a2 a3 bk4) 134 [(0, .ref (g.2.2)), (2, .int (iI a2)), (3, .int (iI a3))] [] := by
      intro a2 a3
      unfold m5_worthAt_j134
      refine gj_iinc (L' := [(3, _), (0, _), (2, _)]) C dX5_worthAt_134 2 rfl (by decide) rfl ?_
      refine gj_goto (tgt := 4) C dX5_worthAt_137 (by decide) ?_
      exact gj_to [1, 2, 0] (hb4 (a2, a3 + 1)) rfl
    have J64 : ∀ (a2 a3 s1 s2 : Int), GJ X 5 (mWo g (cx_s X).heap) Q (m5_worthAt_j64 a2 a3 s1 s2 bk4) 64 [(0, .ref (g.2.2)), (2, .int (iI a2)), (3, .int (iI a3))] [.int (iI s2), .int (iI s1), .ref (g.2.2 + 13)] := by
      intro a2 a3 s1 s2
      unfold m5_worthAt_j64
      refine gj_nrmI ?_
      refine mj_iast (j := 13) C K dX5_worthAt_64 (by decide) (by decide) rfl ?_
      refine gj_iinc (L' := [(2, _), (0, _), (3, _)]) C dX5_worthAt_65 1 rfl (by decide) rfl ?_
      refine gj_goto (tgt := 134) C dX5_worthAt_68 (by decide) ?_
      exact gj_to [1, 0, 2] (J134 (a2 + 1) a3) rfl
    have J33 : ∀ (a2 a3 a4 : Int), GJ X 5 (mWo g (cx_s X).heap) Q (m5_worthAt_j33 a2 a3 a4 bk4) 33 [(0, .ref (g.2.2)), (2, .int (iI a2)), (3, .int (iI a3)), (4, .int (iI a4))] [] := by
      intro a2 a3 a4
      unfold m5_worthAt_j33
      refine gj_aload_n C dX5_worthAt_33 0 rfl ?_
      refine mj_getR (kf := 22) (j := 13) C K dX5_worthAt_34 (by decide) (by decide) rfl (by decide) q1893 rfl ?_
      refine gj_iload_n C dX5_worthAt_37 1 rfl ?_
      refine gj_iload C dX5_worthAt_38 3 rfl ?_
      refine gj_iconst C dX5_worthAt_40 ?_
      refine gj_icmp_ne (tgt := 53) (b' := 1) C dX5_worthAt_41 (by decide) rfl (by decide) (fun h41 => gj_neg h41 ?_) (fun h41 => gj_pos h41 ?_)
      · refine gj_aload_n C dX5_worthAt_53 0 rfl ?_
        refine mj_getR (kf := 21) (j := 12) C K dX5_worthAt_54 (by decide) (by decide) rfl (by decide) q1892 rfl ?_
        refine gj_aload_n C dX5_worthAt_57 0 rfl ?_
        refine mj_getR (kf := 12) (j := 8) C K dX5_worthAt_58 (by decide) (by decide) rfl (by decide) q1883 rfl ?_
        refine gj_iload_n C dX5_worthAt_61 2 rfl ?_
        refine mj_iald (j := 8) C K dX5_worthAt_62 (by decide) rfl (fun v62 => ?_)
        refine mj_iald (j := 12) C K dX5_worthAt_63 (by decide) rfl (fun v63 => ?_)
        exact gj_to [0, 1, 2] (J64 a2 a3 a2 v63) rfl
      · refine gj_aload_n C dX5_worthAt_44 0 rfl ?_
        refine mj_getR (kf := 12) (j := 8) C K dX5_worthAt_45 (by decide) (by decide) rfl (by decide) q1883 rfl ?_
        refine gj_iload_n C dX5_worthAt_48 2 rfl ?_
        refine mj_iald (j := 8) C K dX5_worthAt_49 (by decide) rfl (fun v49 => ?_)
        refine gj_goto (tgt := 64) C dX5_worthAt_50 (by decide) ?_
        exact gj_to [0, 1, 2] (J64 a2 a3 a2 v49) rfl
    unfold m5_worthAt_b4
    refine gj_aload_n C dX5_worthAt_4 0 rfl ?_
    refine mj_getR (kf := 11) (j := 7) C K dX5_worthAt_5 (by decide) (by decide) rfl (by decide) q1882 rfl ?_
    refine gj_iload_n C dX5_worthAt_8 2 rfl ?_
    refine mj_iald (j := 7) C K dX5_worthAt_9 (by decide) rfl (fun v9 => ?_)
    refine gj_if_eq (tgt := 140) C dX5_worthAt_10 (by decide) (fun h10 => gj_pos h10 ?_) (fun h10 => gj_neg h10 ?_)
    · refine gj_aload_n C dX5_worthAt_140 0 rfl ?_
      refine mj_getR (kf := 22) (j := 13) C K dX5_worthAt_141 (by decide) (by decide) rfl (by decide) q1893 rfl ?_
      refine gj_iconst C dX5_worthAt_144 ?_
      refine mj_iald (j := 13) C K dX5_worthAt_145 (by decide) rfl (fun v145 => ?_)
      exact mj_iret C hQ hr dX5_worthAt_146
    · refine gj_aload_n C dX5_worthAt_13 0 rfl ?_
      refine mj_getR (kf := 11) (j := 7) C K dX5_worthAt_14 (by decide) (by decide) rfl (by decide) q1882 rfl ?_
      refine gj_iload_n C dX5_worthAt_17 2 rfl ?_
      refine mj_iald (j := 7) C K dX5_worthAt_18 (by decide) rfl (fun v18 => ?_)
      refine gj_istore (L' := [(4, _), (0, _), (2, _), (3, _)]) C dX5_worthAt_19 (by decide) rfl ?_
      refine gj_iload C dX5_worthAt_21 0 rfl ?_
      refine gj_iconst C dX5_worthAt_23 ?_
      refine gj_icmp_eq (tgt := 33) (b' := 1) C dX5_worthAt_24 (by decide) rfl (by decide) (fun h24 => gj_pos h24 ?_) (fun h24 => gj_neg h24 ?_)
      · exact gj_to [1, 2, 3, 0] (J33 a2 a3 v18) rfl
      · refine gj_iload C dX5_worthAt_27 0 rfl ?_
        refine gj_iconst C dX5_worthAt_29 ?_
        refine gj_icmp_ne (tgt := 71) (b' := 2) C dX5_worthAt_30 (by decide) rfl (by decide) (fun h30 => gj_neg h30 ?_) (fun h30 => gj_pos h30 ?_)
        · refine gj_iload C dX5_worthAt_71 0 rfl ?_
          refine gj_iconst C dX5_worthAt_73 ?_
          refine gj_icmp_ne (tgt := 104) (b' := 3) C dX5_worthAt_74 (by decide) rfl (by decide) (fun h74 => gj_neg h74 ?_) (fun h74 => gj_pos h74 ?_)
          · refine gj_iinc (L' := [(2, _), (4, _), (0, _), (3, _)]) C dX5_worthAt_104 2 rfl (by decide) rfl ?_
            refine gj_aload_n C dX5_worthAt_107 2 rfl ?_
            refine mj_getR (kf := 22) (j := 13) C K dX5_worthAt_108 (by decide) (by decide) rfl (by decide) q1893 rfl ?_
            refine gj_iload_n C dX5_worthAt_111 0 rfl ?_
            refine gj_iconst C dX5_worthAt_112 ?_
            refine gj_isub C dX5_worthAt_113 ?_
            refine gj_iload C dX5_worthAt_114 1 rfl ?_
            refine gj_aload_n C dX5_worthAt_116 2 rfl ?_
            refine mj_getR (kf := 22) (j := 13) C K dX5_worthAt_117 (by decide) (by decide) rfl (by decide) q1893 rfl ?_
            refine gj_iload_n C dX5_worthAt_120 0 rfl ?_
            refine gj_iconst C dX5_worthAt_121 ?_
            refine gj_isub C dX5_worthAt_122 ?_
            refine mj_iald (j := 13) C K dX5_worthAt_123 (by decide) rfl (fun v123 => ?_)
            refine gj_aload_n C dX5_worthAt_124 2 rfl ?_
            refine mj_getR (kf := 22) (j := 13) C K dX5_worthAt_125 (by decide) (by decide) rfl (by decide) q1893 rfl ?_
            refine gj_iload_n C dX5_worthAt_128 0 rfl ?_
            refine mj_iald (j := 13) C K dX5_worthAt_129 (by decide) rfl (fun v129 => ?_)
            refine mj_callSI (As := [.int (iI v18), .int (iI v123), .int (iI v129)]) (rest := [.int (iI ((((a2 + (-1))) - 1))), .ref (g.2.2 + 13)]) C K dX5_worthAt_130 (met5_both (cx_l X) g v18 v123 v129) (lw_S q2241 q2242 q134 q2243) hy5s_both hR (Nat.le_of_ble_eq_true rfl) (by decide) rfl rfl (Nat.le_of_ble_eq_true rfl) (fun v130 => ?_)
            refine mj_iast (j := 13) C K dX5_worthAt_133 (by decide) (by decide) rfl ?_
            exact gj_to [2, 0, 3] (J134 (a2 + (-1)) a3) rfl
          · refine gj_aload_n C dX5_worthAt_77 1 rfl ?_
            refine mj_getR (kf := 22) (j := 13) C K dX5_worthAt_78 (by decide) (by decide) rfl (by decide) q1893 rfl ?_
            refine gj_iload_n C dX5_worthAt_81 2 rfl ?_
            refine gj_iconst C dX5_worthAt_82 ?_
            refine gj_isub C dX5_worthAt_83 ?_
            refine gj_aload_n C dX5_worthAt_84 1 rfl ?_
            refine mj_getR (kf := 22) (j := 13) C K dX5_worthAt_85 (by decide) (by decide) rfl (by decide) q1893 rfl ?_
            refine gj_iload_n C dX5_worthAt_88 2 rfl ?_
            refine gj_iconst C dX5_worthAt_89 ?_
            refine gj_isub C dX5_worthAt_90 ?_
            refine mj_iald (j := 13) C K dX5_worthAt_91 (by decide) rfl (fun v91 => ?_)
            refine gj_dia (J := 100) (L := [(4, .int (iI v18)), (0, .ref (g.2.2)), (2, .int (iI a2)), (3, .int (iI a3))]) (st := [.int (iI ((a2 - 1))), .ref (g.2.2 + 13)]) (fun d100 => ?_) (fun t hJ => ?_)
            · skip
              refine gj_nrmI ?_
              refine mj_iast (j := 13) C K dX5_worthAt_100 (by decide) (by decide) rfl ?_
              refine gj_goto (tgt := 134) C dX5_worthAt_101 (by decide) ?_
              exact gj_to [1, 2, 3] (J134 a2 a3) rfl
            · refine gj_if_ne (tgt := 99) C dX5_worthAt_92 (by decide) (fun h92 => ?_) (fun h92 => ?_)
              · refine gj_iconst C dX5_worthAt_99 ?_
                exact (by rw [if_neg h92] at hJ; exact hJ)
              · refine gj_iconst C dX5_worthAt_95 ?_
                refine gj_goto (tgt := 100) C dX5_worthAt_96 (by decide) ?_
                exact (by rw [if_pos h92] at hJ; exact hJ)
        · exact gj_to [1, 2, 3, 0] (J33 a2 a3 v18) rfl
  unfold m5_worthAt
  refine gj_iconst C dX5_worthAt_0 ?_
  refine gj_istore_n (L' := [(2, _), (0, _), (1, _)]) C dX5_worthAt_1 (by decide) rfl ?_
  refine gj_iload_n C dX5_worthAt_2 2 rfl ?_
  refine gj_istore_n (L' := [(3, _), (2, _), (0, _), (1, _)]) C dX5_worthAt_3 (by decide) rfl ?_
  exact gj_to [2, 1, 0] (J4 0 a1) rfl
def m5_mendsAs_j89 (a1 a2 s0 : Int) : MM Unit :=
  pbnd (mrd 14 1656 (((a1 + 16)) + a2)) fun v101 =>
  plet (if w32 s0 < (-3) then (-3) else if 3 < w32 s0 then 3 else s0) fun d126 =>
  plet (v101 + d126) fun x127 =>
  plet (if w32 x127 < 0 then 0 else if 9 < w32 x127 then 9 else x127) fun d162 =>
  pbnd (mwr 14 1656 (((a1 + 16)) + a2) (w32 d162)) fun _ =>
  pret ()
def m5_mendsAs_j63 (a1 a2 s0 : Int) : MM Unit :=
  pbnd (mrd 6 160 4) fun v70 =>
  pite (w32 v70 < 0) (
    m5_mendsAs_j89 a1 a2 s0) (
    pbnd (mrd 6 160 4) fun v85 =>
    pbnd (m5_worthAt v85) fun v86 =>
    m5_mendsAs_j89 a1 a2 v86)
def m5_mendsAs (a1 a2 : Int) : MM Unit :=
  pbnd (mrd 14 1656 (((a1 + 28)) + a2)) fun v10 =>
  pbnd (m5_personOf v10 0) fun v19 =>
  plet (if w32 v19 = 2 then 1 else 0) fun d31 =>
  pbnd (m5_laysFacts a1 a2 v10 d31) fun _ =>
  pbnd (mrd 12 5 3) fun v39 =>
  pite (4 < w32 v39) (
    m5_mendsAs_j63 a1 a2 1) (
    pbnd (mrd 12 5 3) fun v53 =>
    pite (w32 v53 < 3) (
      m5_mendsAs_j63 a1 a2 (-1)) (
      m5_mendsAs_j63 a1 a2 0))
set_option maxHeartbeats 4000000 in
set_option maxRecDepth 100000 in
theorem met5_mendsAs (l : Launch) (g : MG) (a1 a2 : Int) : MMet l g yX5_mendsAs cX5_mendsAs 5 (Option.none : Option Jvm.ClassFile.FieldType) (2) [.ref (g.2.2), .int (iI a1), .int (iI a2)] (m5_mendsAs a1 a2) rvV := by
  refine mj_start (by decide +kernel) rfl (Nat.le_of_ble_eq_true rfl) (fun X Q hl C K hQ hR hr => ?_)
  subst hl
  show GJ X 5 (mWo g (cx_s X).heap) Q (m5_mendsAs a1 a2) 0 [(0, .ref (g.2.2)), (1, .int (iI a1)), (2, .int (iI a2))] []
  have J89 : ∀ (a1 a2 s0 : Int), GJ X 5 (mWo g (cx_s X).heap) Q (m5_mendsAs_j89 a1 a2 s0) 89 [(0, .ref (g.2.2)), (1, .int (iI a1)), (2, .int (iI a2))] [.int (iI s0)] := by
    intro a1 a2 s0
    unfold m5_mendsAs_j89
    refine gj_istore (L' := [(4, _), (0, _), (1, _), (2, _)]) C dX5_mendsAs_89 (by decide) rfl ?_
    refine gj_aload_n C dX5_mendsAs_91 1 rfl ?_
    refine mj_getR (kf := 23) (j := 14) C K dX5_mendsAs_92 (by decide) (by decide) rfl (by decide) q1894 rfl ?_
    refine gj_iload_n C dX5_mendsAs_95 2 rfl ?_
    refine gj_bipush C dX5_mendsAs_96 rfl ?_
    refine gj_iadd C dX5_mendsAs_98 ?_
    refine gj_iload_n C dX5_mendsAs_99 3 rfl ?_
    refine gj_iadd C dX5_mendsAs_100 ?_
    refine mj_iald (j := 14) C K dX5_mendsAs_101 (by decide) rfl (fun v101 => ?_)
    refine gj_iload C dX5_mendsAs_102 0 rfl ?_
    refine gj_bipush C dX5_mendsAs_104 rfl ?_
    refine gj_dia (J := 126) (L := [(4, .int (iI s0)), (0, .ref (g.2.2)), (1, .int (iI a1)), (2, .int (iI a2))]) (st := [.int (iI v101)]) (fun d126 => ?_) (fun t hJ => ?_)
    · skip
      refine gj_iadd C dX5_mendsAs_126 ?_
      refine gj_let (fun x127 => ?_)
      refine gj_istore (L' := [(4, _), (0, _), (1, _), (2, _)]) C dX5_mendsAs_127 (by decide) rfl ?_
      refine gj_aload_n C dX5_mendsAs_129 1 rfl ?_
      refine mj_getR (kf := 23) (j := 14) C K dX5_mendsAs_130 (by decide) (by decide) rfl (by decide) q1894 rfl ?_
      refine gj_iload_n C dX5_mendsAs_133 2 rfl ?_
      refine gj_bipush C dX5_mendsAs_134 rfl ?_
      refine gj_iadd C dX5_mendsAs_136 ?_
      refine gj_iload_n C dX5_mendsAs_137 3 rfl ?_
      refine gj_iadd C dX5_mendsAs_138 ?_
      refine gj_iload C dX5_mendsAs_139 0 rfl ?_
      refine gj_dia (J := 162) (L := [(4, .int (iI x127)), (0, .ref (g.2.2)), (1, .int (iI a1)), (2, .int (iI a2))]) (st := [.int (iI ((((a1 + 16)) + a2))), .ref (g.2.2 + 14)]) (fun d162 => ?_) (fun t hJ => ?_)
      · skip
        refine gj_nrmI ?_
        refine mj_iast (j := 14) C K dX5_mendsAs_162 (by decide) (by decide) rfl ?_
        exact mj_vret C hQ hr dX5_mendsAs_163
      · refine gj_if_ge (tgt := 148) C dX5_mendsAs_141 (by decide) (fun h141 => ?_) (fun h141 => ?_)
        · refine gj_iload C dX5_mendsAs_148 0 rfl ?_
          refine gj_bipush C dX5_mendsAs_150 rfl ?_
          refine gj_icmp_le (tgt := 160) (b' := 9) C dX5_mendsAs_152 (by decide) rfl (by decide) (fun h152 => ?_) (fun h152 => ?_)
          · refine gj_iload C dX5_mendsAs_160 0 rfl ?_
            exact (by rw [if_neg h141, if_neg h152] at hJ; exact hJ)
          · refine gj_bipush C dX5_mendsAs_155 rfl ?_
            refine gj_goto (tgt := 162) C dX5_mendsAs_157 (by decide) ?_
            exact (by rw [if_neg h141, if_pos h152] at hJ; exact hJ)
        · refine gj_iconst C dX5_mendsAs_144 ?_
          refine gj_goto (tgt := 162) C dX5_mendsAs_145 (by decide) ?_
          exact (by rw [if_pos h141] at hJ; exact hJ)
    · refine gj_icmp_ge (tgt := 114) (b' := (-3)) C dX5_mendsAs_106 (by decide) rfl (by decide) (fun h106 => ?_) (fun h106 => ?_)
      · refine gj_iload C dX5_mendsAs_114 0 rfl ?_
        refine gj_iconst C dX5_mendsAs_116 ?_
        refine gj_icmp_le (tgt := 124) (b' := 3) C dX5_mendsAs_117 (by decide) rfl (by decide) (fun h117 => ?_) (fun h117 => ?_)
        · refine gj_iload C dX5_mendsAs_124 0 rfl ?_
          exact (by rw [if_neg h106, if_neg h117] at hJ; exact hJ)
        · refine gj_iconst C dX5_mendsAs_120 ?_
          refine gj_goto (tgt := 126) C dX5_mendsAs_121 (by decide) ?_
          exact (by rw [if_neg h106, if_pos h117] at hJ; exact hJ)
      · refine gj_bipush C dX5_mendsAs_109 rfl ?_
        refine gj_goto (tgt := 126) C dX5_mendsAs_111 (by decide) ?_
        exact (by rw [if_pos h106] at hJ; exact hJ)
  have J63 : ∀ (a1 a2 s0 : Int), GJ X 5 (mWo g (cx_s X).heap) Q (m5_mendsAs_j63 a1 a2 s0) 63 [(0, .ref (g.2.2)), (1, .int (iI a1)), (2, .int (iI a2))] [.int (iI s0)] := by
    intro a1 a2 s0
    unfold m5_mendsAs_j63
    refine gj_istore (L' := [(4, _), (0, _), (1, _), (2, _)]) C dX5_mendsAs_63 (by decide) rfl ?_
    refine gj_aload_n C dX5_mendsAs_65 1 rfl ?_
    refine mj_getR (kf := 10) (j := 6) C K dX5_mendsAs_66 (by decide) (by decide) rfl (by decide) q1881 rfl ?_
    refine gj_iconst C dX5_mendsAs_69 ?_
    refine mj_iald (j := 6) C K dX5_mendsAs_70 (by decide) rfl (fun v70 => ?_)
    refine gj_if_ge (tgt := 79) C dX5_mendsAs_71 (by decide) (fun h71 => gj_neg h71 ?_) (fun h71 => gj_pos h71 ?_)
    · refine gj_aload_n C dX5_mendsAs_79 1 rfl ?_
      refine gj_aload_n C dX5_mendsAs_80 1 rfl ?_
      refine mj_getR (kf := 10) (j := 6) C K dX5_mendsAs_81 (by decide) (by decide) rfl (by decide) q1881 rfl ?_
      refine gj_iconst C dX5_mendsAs_84 ?_
      refine mj_iald (j := 6) C K dX5_mendsAs_85 (by decide) rfl (fun v85 => ?_)
      refine mj_callVI (As := [.int (iI v85)]) (rest := []) C K dX5_mendsAs_86 (met5_worthAt (cx_l X) g v85) (lw_V q2237 q2239 qs104 q134 q2240) hy5_worthAt hR (Nat.le_of_ble_eq_true rfl) (by decide) rfl rfl (Nat.zero_le _) (fun v86 => ?_)
      exact gj_to [1, 2, 3] (J89 a1 a2 v86) rfl
    · refine gj_iload C dX5_mendsAs_74 0 rfl ?_
      refine gj_goto (tgt := 89) C dX5_mendsAs_76 (by decide) ?_
      exact gj_to [1, 2, 3] (J89 a1 a2 s0) rfl
  unfold m5_mendsAs
  refine gj_aload_n C dX5_mendsAs_0 0 rfl ?_
  refine mj_getR (kf := 23) (j := 14) C K dX5_mendsAs_1 (by decide) (by decide) rfl (by decide) q1894 rfl ?_
  refine gj_iload_n C dX5_mendsAs_4 1 rfl ?_
  refine gj_bipush C dX5_mendsAs_5 rfl ?_
  refine gj_iadd C dX5_mendsAs_7 ?_
  refine gj_iload_n C dX5_mendsAs_8 2 rfl ?_
  refine gj_iadd C dX5_mendsAs_9 ?_
  refine mj_iald (j := 14) C K dX5_mendsAs_10 (by decide) rfl (fun v10 => ?_)
  refine gj_istore_n (L' := [(3, _), (0, _), (1, _), (2, _)]) C dX5_mendsAs_11 (by decide) rfl ?_
  refine gj_aload_n C dX5_mendsAs_12 1 rfl ?_
  refine gj_iload_n C dX5_mendsAs_13 2 rfl ?_
  refine gj_iload_n C dX5_mendsAs_14 3 rfl ?_
  refine gj_iload_n C dX5_mendsAs_15 0 rfl ?_
  refine gj_aload_n C dX5_mendsAs_16 1 rfl ?_
  refine gj_iload_n C dX5_mendsAs_17 0 rfl ?_
  refine gj_iconst C dX5_mendsAs_18 ?_
  refine mj_callVI (As := [.int (iI v10), .int (iI 0)]) (rest := [.int (iI v10), .int (iI a2), .int (iI a1), .ref (g.2.2)]) C K dX5_mendsAs_19 (met5_personOf (cx_l X) g v10 0) (lw_V q1855 q1857 qs56 q134 q1858) hy5_personOf hR (Nat.le_of_ble_eq_true rfl) (by decide) rfl rfl (Nat.le_of_ble_eq_true rfl) (fun v19 => ?_)
  refine gj_iconst C dX5_mendsAs_22 ?_
  refine gj_dia (J := 31) (L := [(3, .int (iI v10)), (0, .ref (g.2.2)), (1, .int (iI a1)), (2, .int (iI a2))]) (st := [.int (iI v10), .int (iI a2), .int (iI a1), .ref (g.2.2)]) (fun d31 => ?_) (fun t hJ => ?_)
  · skip
    refine mj_callVV (As := [.int (iI a1), .int (iI a2), .int (iI v10), .int (iI d31)]) (rest := []) C K dX5_mendsAs_31 (met5_laysFacts (cx_l X) g a1 a2 v10 d31) (lw_V q2229 q2231 qs102 q134 q2232) hy5_laysFacts hR (Nat.le_of_ble_eq_true rfl) (by decide) rfl rfl (Nat.zero_le _) ?_
    refine gj_aload_n C dX5_mendsAs_34 1 rfl ?_
    refine mj_getR (kf := 21) (j := 12) C K dX5_mendsAs_35 (by decide) (by decide) rfl (by decide) q1892 rfl ?_
    refine gj_iconst C dX5_mendsAs_38 ?_
    refine mj_iald (j := 12) C K dX5_mendsAs_39 (by decide) rfl (fun v39 => ?_)
    refine gj_iconst C dX5_mendsAs_40 ?_
    refine gj_icmp_le (tgt := 48) (b' := 4) C dX5_mendsAs_41 (by decide) rfl (by decide) (fun h41 => gj_neg h41 ?_) (fun h41 => gj_pos h41 ?_)
    · refine gj_aload_n C dX5_mendsAs_48 1 rfl ?_
      refine mj_getR (kf := 21) (j := 12) C K dX5_mendsAs_49 (by decide) (by decide) rfl (by decide) q1892 rfl ?_
      refine gj_iconst C dX5_mendsAs_52 ?_
      refine mj_iald (j := 12) C K dX5_mendsAs_53 (by decide) rfl (fun v53 => ?_)
      refine gj_iconst C dX5_mendsAs_54 ?_
      refine gj_icmp_ge (tgt := 62) (b' := 3) C dX5_mendsAs_55 (by decide) rfl (by decide) (fun h55 => gj_neg h55 ?_) (fun h55 => gj_pos h55 ?_)
      · refine gj_iconst C dX5_mendsAs_62 ?_
        exact gj_to [1, 2, 3] (J63 a1 a2 0) rfl
      · refine gj_iconst C dX5_mendsAs_58 ?_
        refine gj_goto (tgt := 63) C dX5_mendsAs_59 (by decide) ?_
        exact gj_to [1, 2, 3] (J63 a1 a2 (-1)) rfl
    · refine gj_iconst C dX5_mendsAs_44 ?_
      refine gj_goto (tgt := 63) C dX5_mendsAs_45 (by decide) ?_
      exact gj_to [1, 2, 3] (J63 a1 a2 1) rfl
  · refine gj_icmp_ne (tgt := 30) (b' := 2) C dX5_mendsAs_23 (by decide) rfl (by decide) (fun h23 => ?_) (fun h23 => ?_)
    · refine gj_iconst C dX5_mendsAs_30 ?_
      exact (by rw [if_neg h23] at hJ; exact hJ)
    · refine gj_iconst C dX5_mendsAs_26 ?_
      refine gj_goto (tgt := 31) C dX5_mendsAs_27 (by decide) ?_
      exact (by rw [if_pos h23] at hJ; exact hJ)
def m5_gets (a1 a2 a3 : Int) : MM Unit :=
  pbnd (mrd 14 1656 (((a1 + 4)) + a2)) fun v9 =>
  plet (v9 + a3) fun x12 =>
  plet (if 9999 < w32 x12 then 9999 else x12) fun d39 =>
  pbnd (mwr 14 1656 (((a1 + 4)) + a2) (w32 d39)) fun _ =>
  pret ()
set_option maxHeartbeats 4000000 in
set_option maxRecDepth 100000 in
theorem met5_gets (l : Launch) (g : MG) (a1 a2 a3 : Int) : MMet l g yX5_gets cX5_gets 5 (Option.none : Option Jvm.ClassFile.FieldType) (0) [.ref (g.2.2), .int (iI a1), .int (iI a2), .int (iI a3)] (m5_gets a1 a2 a3) rvV := by
  refine mj_start (by decide +kernel) rfl (Nat.le_of_ble_eq_true rfl) (fun X Q hl C K hQ hR hr => ?_)
  subst hl
  show GJ X 5 (mWo g (cx_s X).heap) Q (m5_gets a1 a2 a3) 0 [(0, .ref (g.2.2)), (1, .int (iI a1)), (2, .int (iI a2)), (3, .int (iI a3))] []
  unfold m5_gets
  refine gj_aload_n C dX5_gets_0 0 rfl ?_
  refine mj_getR (kf := 23) (j := 14) C K dX5_gets_1 (by decide) (by decide) rfl (by decide) q1894 rfl ?_
  refine gj_iload_n C dX5_gets_4 1 rfl ?_
  refine gj_iconst C dX5_gets_5 ?_
  refine gj_iadd C dX5_gets_6 ?_
  refine gj_iload_n C dX5_gets_7 2 rfl ?_
  refine gj_iadd C dX5_gets_8 ?_
  refine mj_iald (j := 14) C K dX5_gets_9 (by decide) rfl (fun v9 => ?_)
  refine gj_iload_n C dX5_gets_10 3 rfl ?_
  refine gj_iadd C dX5_gets_11 ?_
  refine gj_let (fun x12 => ?_)
  refine gj_istore (L' := [(4, _), (0, _), (1, _), (2, _), (3, _)]) C dX5_gets_12 (by decide) rfl ?_
  refine gj_aload_n C dX5_gets_14 1 rfl ?_
  refine mj_getR (kf := 23) (j := 14) C K dX5_gets_15 (by decide) (by decide) rfl (by decide) q1894 rfl ?_
  refine gj_iload_n C dX5_gets_18 2 rfl ?_
  refine gj_iconst C dX5_gets_19 ?_
  refine gj_iadd C dX5_gets_20 ?_
  refine gj_iload_n C dX5_gets_21 3 rfl ?_
  refine gj_iadd C dX5_gets_22 ?_
  refine gj_iload C dX5_gets_23 0 rfl ?_
  refine gj_sipush C dX5_gets_25 rfl ?_
  refine gj_dia (J := 39) (L := [(4, .int (iI x12)), (0, .ref (g.2.2)), (1, .int (iI a1)), (2, .int (iI a2)), (3, .int (iI a3))]) (st := [.int (iI ((((a1 + 4)) + a2))), .ref (g.2.2 + 14)]) (fun d39 => ?_) (fun t hJ => ?_)
  · skip
    refine gj_nrmI ?_
    refine mj_iast (j := 14) C K dX5_gets_39 (by decide) (by decide) rfl ?_
    exact mj_vret C hQ hr dX5_gets_40
  · refine gj_icmp_le (tgt := 37) (b' := 9999) C dX5_gets_28 (by decide) rfl (by decide) (fun h28 => ?_) (fun h28 => ?_)
    · refine gj_iload C dX5_gets_37 0 rfl ?_
      exact (by rw [if_neg h28] at hJ; exact hJ)
    · refine gj_sipush C dX5_gets_31 rfl ?_
      refine gj_goto (tgt := 39) C dX5_gets_34 (by decide) ?_
      exact (by rw [if_pos h28] at hJ; exact hJ)
def m5_poorest_j53 (a1 a2 a3 a4 s0 : Int) (bk5 : (Int × Int) → MM Int) : MM Int :=
  plet (if w32 s0 = 0 then a3 else a4) fun d66 =>
  bk5 (d66, a4 + 1)
def m5_poorest_j52 (a1 a2 a3 a4 : Int) (bk5 : (Int × Int) → MM Int) : MM Int :=
  m5_poorest_j53 a1 a2 a3 a4 0 bk5
def m5_poorest_j48 (a1 a2 a3 a4 : Int) (bk5 : (Int × Int) → MM Int) : MM Int :=
  m5_poorest_j53 a1 a2 a3 a4 1 bk5
def m5_poorest_b5 (a1 a2 : Int) (a3 a4 : Int) (bk5 : (Int × Int) → MM Int) : MM Int :=
  pbnd (m5_people) fun v8 =>
  pite (w32 a4 < w32 v8) (
    pite (w32 a4 = w32 a2) (
      m5_poorest_j52 a1 a2 a3 a4 bk5) (
      pite (w32 a3 < 0) (
        m5_poorest_j48 a1 a2 a3 a4 bk5) (
        pbnd (mrd 14 1656 (((a1 + 4)) + a4)) fun v34 =>
        pbnd (mrd 14 1656 (((a1 + 4)) + a3)) fun v44 =>
        pite (w32 v34 < w32 v44) (
          m5_poorest_j48 a1 a2 a3 a4 bk5) (
          m5_poorest_j52 a1 a2 a3 a4 bk5)))) (
    pret (w32 a3))
def m5_poorest_l5 (a1 a2 a3 a4 : Int) : MM Int :=
  ploop (fun (s : (Int × Int)) bk5 => m5_poorest_b5 a1 a2 s.1 s.2 bk5) (a3, a4)
def m5_poorest (a1 a2 : Int) : MM Int :=
  m5_poorest_l5 a1 a2 (-1) 0
set_option maxHeartbeats 4000000 in
set_option maxRecDepth 100000 in
theorem met5_poorest (l : Launch) (g : MG) (a1 a2 : Int) : MMet l g yX5_poorest cX5_poorest 6 (Option.some Jvm.ClassFile.FieldType.int) (1) [.ref (g.2.2), .int (iI a1), .int (iI a2)] (m5_poorest a1 a2) rvI := by
  refine mj_start (by decide +kernel) rfl (Nat.le_of_ble_eq_true rfl) (fun X Q hl C K hQ hR hr => ?_)
  subst hl
  show GJ X 6 (mWo g (cx_s X).heap) Q (m5_poorest a1 a2) 0 [(0, .ref (g.2.2)), (1, .int (iI a1)), (2, .int (iI a2))] []
  have J5 : ∀ (a1 a2 a3 a4 : Int), GJ X 6 (mWo g (cx_s X).heap) Q (m5_poorest_l5 a1 a2 a3 a4) 5 [(0, .ref (g.2.2)), (1, .int (iI a1)), (2, .int (iI a2)), (3, .int (iI a3)), (4, .int (iI a4))] [] := by
    intro a1 a2 a3 a4
    unfold m5_poorest_l5
    refine gj_loop (fun (s : (Int × Int)) => [(0, .ref (g.2.2)), (1, .int (iI a1)), (2, .int (iI a2)), (3, .int (iI (s.1))), (4, .int (iI (s.2)))]) (a3, a4) (fun bk5 hb5 s => ?_)
    obtain ⟨a3, a4⟩ := s
    show GJ X 6 (mWo g (cx_s X).heap) Q (m5_poorest_b5 a1 a2 a3 a4 bk5) 5 [(0, .ref (g.2.2)), (1, .int (iI a1)), (2, .int (iI a2)), (3, .int (iI a3)), (4, .int (iI a4))] []
    have J53 : ∀ (a3 a4 s0 : Int), GJ X 6 (mWo g (cx_s X).heap) Q (m5_poorest_j53 a1 a2 a3 a4 s0 bk5) 53 [(0, .ref (g.2.2)), (1, .int (iI a1)), (2, .int (iI a2)), (3, .int (iI a3)), (4, .int (iI a4))] [.int (iI s0)] := by
      intro a3 a4 s0
      unfold m5_poorest_j53
      refine gj_istore (L' := [(5, _), (0, _), (1, _), (2, _), (3, _), (4, _)]) C dX5_poorest_53 (by decide) rfl ?_
      refine gj_iload C dX5_poorest_55 0 rfl ?_
      refine gj_dia (J := 66) (L := [(5, .int (iI s0)), (0, .ref (g.2.2)), (1, .int (iI a1)), (2, .int (iI a2)), (3, .int (iI a3)), (4, .int (iI a4))]) (st := []) (fun d66 => ?_) (fun t hJ => ?_)
      · skip
        refine gj_istore_n (L' := [(3, _), (5, _), (0, _), (1, _), (2, _), (4, _)]) C dX5_poorest_66 (by decide) rfl ?_
        refine gj_iinc (L' := [(4, _), (3, _), (5, _), (0, _), (1, _), (2, _)]) C dX5_poorest_67 5 rfl (by decide) rfl ?_
        refine gj_goto (tgt := 5) C dX5_poorest_70 (by decide) ?_
        exact gj_to [3, 4, 5, 1, 0] (hb5 (d66, a4 + 1)) rfl
      · refine gj_if_eq (tgt := 65) C dX5_poorest_57 (by decide) (fun h57 => ?_) (fun h57 => ?_)
        · refine gj_iload_n C dX5_poorest_65 4 rfl ?_
          exact (by rw [if_pos h57] at hJ; exact hJ)
        · refine gj_iload C dX5_poorest_60 5 rfl ?_
          refine gj_goto (tgt := 66) C dX5_poorest_62 (by decide) ?_
          exact (by rw [if_neg h57] at hJ; exact hJ)
    have J52 : ∀ (a3 a4 : Int), GJ X 6 (mWo g (cx_s X).heap) Q (m5_poorest_j52 a1 a2 a3 a4 bk5) 52 [(0, .ref (g.2.2)), (1, .int (iI a1)), (2, .int (iI a2)), (3, .int (iI a3)), (4, .int (iI a4))] [] := by
      intro a3 a4
      unfold m5_poorest_j52
      refine gj_iconst C dX5_poorest_52 ?_
      exact gj_to [0, 1, 2, 3, 4] (J53 a3 a4 0) rfl
    have J48 : ∀ (a3 a4 : Int), GJ X 6 (mWo g (cx_s X).heap) Q (m5_poorest_j48 a1 a2 a3 a4 bk5) 48 [(0, .ref (g.2.2)), (1, .int (iI a1)), (2, .int (iI a2)), (3, .int (iI a3)), (4, .int (iI a4))] [] := by
      intro a3 a4
      unfold m5_poorest_j48
      refine gj_iconst C dX5_poorest_48 ?_
      refine gj_goto (tgt := 53) C dX5_poorest_49 (by decide) ?_
      exact gj_to [0, 1, 2, 3, 4] (J53 a3 a4 1) rfl
    unfold m5_poorest_b5
    refine gj_iload C dX5_poorest_5 4 rfl ?_
    refine gj_aload_n C dX5_poorest_7 0 rfl ?_
    refine mj_callVI (As := []) (rest := [.int (iI a4)]) C K dX5_poorest_8 (met5_people (cx_l X) g) (lw_V q1851 q1853 qs55 q134 q1854) hy5_people hR (Nat.le_of_ble_eq_true rfl) (by decide) rfl rfl (Nat.le_of_ble_eq_true rfl) (fun v8 => ?_)
    refine gj_icmp_ge (tgt := 73) C dX5_poorest_11 (by decide) rfl rfl (fun h11 => gj_neg h11 ?_) (fun h11 => gj_pos h11 ?_)
    · refine gj_iload_n C dX5_poorest_73 3 rfl ?_
      refine gj_nrmI ?_
      exact mj_iret C hQ hr dX5_poorest_74
    · refine gj_iload C dX5_poorest_14 4 rfl ?_
      refine gj_iload_n C dX5_poorest_16 2 rfl ?_
      refine gj_icmp_eq (tgt := 52) C dX5_poorest_17 (by decide) rfl rfl (fun h17 => gj_pos h17 ?_) (fun h17 => gj_neg h17 ?_)
      · exact gj_to [0, 1, 2, 3, 4] (J52 a3 a4) rfl
      · refine gj_iload_n C dX5_poorest_20 3 rfl ?_
        refine gj_if_lt (tgt := 48) C dX5_poorest_21 (by decide) (fun h21 => gj_pos h21 ?_) (fun h21 => gj_neg h21 ?_)
        · exact gj_to [0, 1, 2, 3, 4] (J48 a3 a4) rfl
        · refine gj_aload_n C dX5_poorest_24 0 rfl ?_
          refine mj_getR (kf := 23) (j := 14) C K dX5_poorest_25 (by decide) (by decide) rfl (by decide) q1894 rfl ?_
          refine gj_iload_n C dX5_poorest_28 1 rfl ?_
          refine gj_iconst C dX5_poorest_29 ?_
          refine gj_iadd C dX5_poorest_30 ?_
          refine gj_iload C dX5_poorest_31 4 rfl ?_
          refine gj_iadd C dX5_poorest_33 ?_
          refine mj_iald (j := 14) C K dX5_poorest_34 (by decide) rfl (fun v34 => ?_)
          refine gj_aload_n C dX5_poorest_35 0 rfl ?_
          refine mj_getR (kf := 23) (j := 14) C K dX5_poorest_36 (by decide) (by decide) rfl (by decide) q1894 rfl ?_
          refine gj_iload_n C dX5_poorest_39 1 rfl ?_
          refine gj_iconst C dX5_poorest_40 ?_
          refine gj_iadd C dX5_poorest_41 ?_
          refine gj_iload_n C dX5_poorest_42 3 rfl ?_
          refine gj_iadd C dX5_poorest_43 ?_
          refine mj_iald (j := 14) C K dX5_poorest_44 (by decide) rfl (fun v44 => ?_)
          refine gj_icmp_ge (tgt := 52) C dX5_poorest_45 (by decide) rfl rfl (fun h45 => gj_neg h45 ?_) (fun h45 => gj_pos h45 ?_)
          · exact gj_to [0, 1, 2, 3, 4] (J52 a3 a4) rfl
          · exact gj_to [0, 1, 2, 3, 4] (J48 a3 a4) rfl
  unfold m5_poorest
  refine gj_iconst C dX5_poorest_0 ?_
  refine gj_istore_n (L' := [(3, _), (0, _), (1, _), (2, _)]) C dX5_poorest_1 (by decide) rfl ?_
  refine gj_iconst C dX5_poorest_2 ?_
  refine gj_istore (L' := [(4, _), (3, _), (0, _), (1, _), (2, _)]) C dX5_poorest_3 (by decide) rfl ?_
  exact gj_to [2, 3, 4, 1, 0] (J5 a1 a2 (-1) 0) rfl
def m5_spendsAs_j212 (a1 a2 a5 s0 : Int) : MM Unit :=
  pbnd (mrd 14 1656 (((a1 + 10)) + a2)) fun v225 =>
  pbnd (mwr 14 1656 (((a1 + 10)) + a2) (w32 (v225 - s0))) fun _ =>
  pbnd (m5_poorest a1 a2) fun v233 =>
  pite (w32 v233 < 0) (
    pret ()) (
    pbnd (m5_gets a1 v233 (a5 - s0)) fun _ =>
    pret ())
def m5_spendsAs_j138 (a1 a2 a3 a4 s0 : Int) : MM Unit :=
  pbnd (mrd 14 1656 (((a1 + 4)) + a2)) fun v150 =>
  pbnd (mwr 14 1656 (((a1 + 4)) + a2) (w32 (v150 - s0))) fun _ =>
  pite (w32 a4 = 2) (
    pbnd (m5_gets a1 a3 s0) fun _ =>
    pret ()) (
    pite (w32 a4 = 3) (
      pbnd (mrd 14 1656 (((a1 + 10)) + a2)) fun v192 =>
      pite (w32 s0 < w32 v192) (
        m5_spendsAs_j212 a1 a2 s0 s0) (
        pbnd (mrd 14 1656 (((a1 + 10)) + a2)) fun v211 =>
        m5_spendsAs_j212 a1 a2 s0 v211)) (
      m5_spendsAs_j212 a1 a2 s0 0))
def m5_spendsAs_j121 (a1 a2 a3 a4 s0 : Int) : MM Unit :=
  pite (w32 a4 = 1) (
    pbnd (pnz 2) fun _ =>
    m5_spendsAs_j138 a1 a2 a3 a4 (zdiv s0 2)) (
    m5_spendsAs_j138 a1 a2 a3 a4 s0)
def m5_spendsAs_j97 (a1 a2 a3 a4 s0 : Int) : MM Unit :=
  pbnd (mrd 12 5 0) fun v106 =>
  pite (w32 v106 < w32 s0) (
    pbnd (mrd 12 5 0) fun v115 =>
    m5_spendsAs_j121 a1 a2 a3 a4 v115) (
    m5_spendsAs_j121 a1 a2 a3 a4 s0)
def m5_spendsAs_j68 (a1 a2 a3 a4 s0 : Int) : MM Unit :=
  pite (w32 s0 < 0) (
    m5_spendsAs_j97 a1 a2 a3 a4 0) (
    pbnd (mget 26) fun v82 =>
    pite (w32 v82 < w32 s0) (
      pbnd (mget 26) fun v89 =>
      m5_spendsAs_j97 a1 a2 a3 a4 v89) (
      m5_spendsAs_j97 a1 a2 a3 a4 s0))
def m5_spendsAs (a1 a2 : Int) : MM Unit :=
  pbnd (mrd 14 1656 (((a1 + 28)) + a2)) fun v10 =>
  pbnd (m5_personOf v10 0) fun v15 =>
  plet (if w32 v15 = 2 then 1 else 0) fun d35 =>
  pbnd (m5_laysFacts a1 a2 v10 d35) fun _ =>
  pbnd (mrd 6 160 3) fun v43 =>
  pite (w32 v43 < 0) (
    pbnd (mrd 12 5 3) fun v52 =>
    m5_spendsAs_j68 a1 a2 v10 v15 (v52 * 2)) (
    pbnd (mrd 6 160 3) fun v64 =>
    pbnd (m5_worthAt v64) fun v65 =>
    m5_spendsAs_j68 a1 a2 v10 v15 v65)
set_option maxHeartbeats 4000000 in
set_option maxRecDepth 100000 in
theorem met5_spendsAs (l : Launch) (g : MG) (a1 a2 : Int) : MMet l g yX5_spendsAs cX5_spendsAs 8 (Option.none : Option Jvm.ClassFile.FieldType) (2) [.ref (g.2.2), .int (iI a1), .int (iI a2)] (m5_spendsAs a1 a2) rvV := by
  refine mj_start (by decide +kernel) rfl (Nat.le_of_ble_eq_true rfl) (fun X Q hl C K hQ hR hr => ?_)
  subst hl
  show GJ X 8 (mWo g (cx_s X).heap) Q (m5_spendsAs a1 a2) 0 [(0, .ref (g.2.2)), (1, .int (iI a1)), (2, .int (iI a2))] []
  have J212 : ∀ (a1 a2 a5 s0 : Int), GJ X 8 (mWo g (cx_s X).heap) Q (m5_spendsAs_j212 a1 a2 a5 s0) 212 [(0, .ref (g.2.2)), (1, .int (iI a1)), (2, .int (iI a2)), (5, .int (iI a5))] [.int (iI s0)] := by
    intro a1 a2 a5 s0
    unfold m5_spendsAs_j212
    refine gj_istore (L' := [(6, _), (0, _), (1, _), (2, _), (5, _)]) C dX5_spendsAs_212 (by decide) rfl ?_
    refine gj_aload_n C dX5_spendsAs_214 1 rfl ?_
    refine mj_getR (kf := 23) (j := 14) C K dX5_spendsAs_215 (by decide) (by decide) rfl (by decide) q1894 rfl ?_
    refine gj_iload_n C dX5_spendsAs_218 2 rfl ?_
    refine gj_bipush C dX5_spendsAs_219 rfl ?_
    refine gj_iadd C dX5_spendsAs_221 ?_
    refine gj_iload_n C dX5_spendsAs_222 3 rfl ?_
    refine gj_iadd C dX5_spendsAs_223 ?_
    refine gj_dup2 C dX5_spendsAs_224 rfl rfl ?_
    refine mj_iald (j := 14) C K dX5_spendsAs_225 (by decide) rfl (fun v225 => ?_)
    refine gj_iload C dX5_spendsAs_226 0 rfl ?_
    refine gj_isub C dX5_spendsAs_228 ?_
    refine gj_nrmI ?_
    refine mj_iast (j := 14) C K dX5_spendsAs_229 (by decide) (by decide) rfl ?_
    refine gj_aload_n C dX5_spendsAs_230 1 rfl ?_
    refine gj_iload_n C dX5_spendsAs_231 2 rfl ?_
    refine gj_iload_n C dX5_spendsAs_232 3 rfl ?_
    refine mj_callVI (As := [.int (iI a1), .int (iI a2)]) (rest := []) C K dX5_spendsAs_233 (met5_poorest (cx_l X) g a1 a2) (lw_V q2248 q2250 qs106 q134 q2251) hy5_poorest hR (Nat.le_of_ble_eq_true rfl) (by decide) rfl rfl (Nat.zero_le _) (fun v233 => ?_)
    refine gj_istore (L' := [(7, _), (6, _), (0, _), (1, _), (2, _), (5, _)]) C dX5_spendsAs_236 (by decide) rfl ?_
    refine gj_iload C dX5_spendsAs_238 0 rfl ?_
    refine gj_if_lt (tgt := 255) C dX5_spendsAs_240 (by decide) (fun h240 => gj_pos h240 ?_) (fun h240 => gj_neg h240 ?_)
    · exact mj_vret C hQ hr dX5_spendsAs_255
    · refine gj_aload_n C dX5_spendsAs_243 2 rfl ?_
      refine gj_iload_n C dX5_spendsAs_244 3 rfl ?_
      refine gj_iload C dX5_spendsAs_245 0 rfl ?_
      refine gj_iload C dX5_spendsAs_247 5 rfl ?_
      refine gj_iload C dX5_spendsAs_249 1 rfl ?_
      refine gj_isub C dX5_spendsAs_251 ?_
      refine mj_callVV (As := [.int (iI a1), .int (iI v233), .int (iI ((a5 - s0)))]) (rest := []) C K dX5_spendsAs_252 (met5_gets (cx_l X) g a1 v233 (a5 - s0)) (lw_V q2244 q2246 qs105 q134 q2247) hy5_gets hR (Nat.le_of_ble_eq_true rfl) (by decide) rfl rfl (Nat.zero_le _) ?_
      exact mj_vret C hQ hr dX5_spendsAs_255
  have J138 : ∀ (a1 a2 a3 a4 s0 : Int), GJ X 8 (mWo g (cx_s X).heap) Q (m5_spendsAs_j138 a1 a2 a3 a4 s0) 138 [(0, .ref (g.2.2)), (1, .int (iI a1)), (2, .int (iI a2)), (3, .int (iI a3)), (4, .int (iI a4))] [.int (iI s0)] := by
    intro a1 a2 a3 a4 s0
    unfold m5_spendsAs_j138
    refine gj_istore (L' := [(5, _), (0, _), (1, _), (2, _), (3, _), (4, _)]) C dX5_spendsAs_138 (by decide) rfl ?_
    refine gj_aload_n C dX5_spendsAs_140 1 rfl ?_
    refine mj_getR (kf := 23) (j := 14) C K dX5_spendsAs_141 (by decide) (by decide) rfl (by decide) q1894 rfl ?_
    refine gj_iload_n C dX5_spendsAs_144 2 rfl ?_
    refine gj_iconst C dX5_spendsAs_145 ?_
    refine gj_iadd C dX5_spendsAs_146 ?_
    refine gj_iload_n C dX5_spendsAs_147 3 rfl ?_
    refine gj_iadd C dX5_spendsAs_148 ?_
    refine gj_dup2 C dX5_spendsAs_149 rfl rfl ?_
    refine mj_iald (j := 14) C K dX5_spendsAs_150 (by decide) rfl (fun v150 => ?_)
    refine gj_iload C dX5_spendsAs_151 0 rfl ?_
    refine gj_isub C dX5_spendsAs_153 ?_
    refine gj_nrmI ?_
    refine mj_iast (j := 14) C K dX5_spendsAs_154 (by decide) (by decide) rfl ?_
    refine gj_iload C dX5_spendsAs_155 5 rfl ?_
    refine gj_iconst C dX5_spendsAs_157 ?_
    refine gj_icmp_ne (tgt := 170) (b' := 2) C dX5_spendsAs_158 (by decide) rfl (by decide) (fun h158 => gj_neg h158 ?_) (fun h158 => gj_pos h158 ?_)
    · refine gj_iload C dX5_spendsAs_170 5 rfl ?_
      refine gj_iconst C dX5_spendsAs_172 ?_
      refine gj_icmp_eq (tgt := 180) (b' := 3) C dX5_spendsAs_173 (by decide) rfl (by decide) (fun h173 => gj_pos h173 ?_) (fun h173 => gj_neg h173 ?_)
      · refine gj_iload C dX5_spendsAs_180 0 rfl ?_
        refine gj_aload_n C dX5_spendsAs_182 1 rfl ?_
        refine mj_getR (kf := 23) (j := 14) C K dX5_spendsAs_183 (by decide) (by decide) rfl (by decide) q1894 rfl ?_
        refine gj_iload_n C dX5_spendsAs_186 2 rfl ?_
        refine gj_bipush C dX5_spendsAs_187 rfl ?_
        refine gj_iadd C dX5_spendsAs_189 ?_
        refine gj_iload_n C dX5_spendsAs_190 3 rfl ?_
        refine gj_iadd C dX5_spendsAs_191 ?_
        refine mj_iald (j := 14) C K dX5_spendsAs_192 (by decide) rfl (fun v192 => ?_)
        refine gj_icmp_ge (tgt := 201) C dX5_spendsAs_193 (by decide) rfl rfl (fun h193 => gj_neg h193 ?_) (fun h193 => gj_pos h193 ?_)
        · refine gj_aload_n C dX5_spendsAs_201 1 rfl ?_
          refine mj_getR (kf := 23) (j := 14) C K dX5_spendsAs_202 (by decide) (by decide) rfl (by decide) q1894 rfl ?_
          refine gj_iload_n C dX5_spendsAs_205 2 rfl ?_
          refine gj_bipush C dX5_spendsAs_206 rfl ?_
          refine gj_iadd C dX5_spendsAs_208 ?_
          refine gj_iload_n C dX5_spendsAs_209 3 rfl ?_
          refine gj_iadd C dX5_spendsAs_210 ?_
          refine mj_iald (j := 14) C K dX5_spendsAs_211 (by decide) rfl (fun v211 => ?_)
          exact gj_to [1, 2, 3, 0] (J212 a1 a2 s0 v211) rfl
        · refine gj_iload C dX5_spendsAs_196 0 rfl ?_
          refine gj_goto (tgt := 212) C dX5_spendsAs_198 (by decide) ?_
          exact gj_to [1, 2, 3, 0] (J212 a1 a2 s0 s0) rfl
      · refine gj_iconst C dX5_spendsAs_176 ?_
        refine gj_goto (tgt := 212) C dX5_spendsAs_177 (by decide) ?_
        exact gj_to [1, 2, 3, 0] (J212 a1 a2 s0 0) rfl
    · refine gj_aload_n C dX5_spendsAs_161 1 rfl ?_
      refine gj_iload_n C dX5_spendsAs_162 2 rfl ?_
      refine gj_iload_n C dX5_spendsAs_163 4 rfl ?_
      refine gj_iload C dX5_spendsAs_164 0 rfl ?_
      refine mj_callVV (As := [.int (iI a1), .int (iI a3), .int (iI s0)]) (rest := []) C K dX5_spendsAs_166 (met5_gets (cx_l X) g a1 a3 s0) (lw_V q2244 q2246 qs105 q134 q2247) hy5_gets hR (Nat.le_of_ble_eq_true rfl) (by decide) rfl rfl (Nat.zero_le _) ?_
      exact mj_vret C hQ hr dX5_spendsAs_169
  have J121 : ∀ (a1 a2 a3 a4 s0 : Int), GJ X 8 (mWo g (cx_s X).heap) Q (m5_spendsAs_j121 a1 a2 a3 a4 s0) 121 [(0, .ref (g.2.2)), (1, .int (iI a1)), (2, .int (iI a2)), (3, .int (iI a3)), (4, .int (iI a4))] [.int (iI s0)] := by
    intro a1 a2 a3 a4 s0
    unfold m5_spendsAs_j121
    refine gj_istore (L' := [(5, _), (0, _), (1, _), (2, _), (3, _), (4, _)]) C dX5_spendsAs_121 (by decide) rfl ?_
    refine gj_iload C dX5_spendsAs_123 5 rfl ?_
    refine gj_iconst C dX5_spendsAs_125 ?_
    refine gj_icmp_ne (tgt := 136) (b' := 1) C dX5_spendsAs_126 (by decide) rfl (by decide) (fun h126 => gj_neg h126 ?_) (fun h126 => gj_pos h126 ?_)
    · refine gj_iload C dX5_spendsAs_136 0 rfl ?_
      exact gj_to [1, 2, 3, 4, 5] (J138 a1 a2 a3 a4 s0) rfl
    · refine gj_iload C dX5_spendsAs_129 0 rfl ?_
      refine gj_iconst C dX5_spendsAs_131 ?_
      refine gj_nz (fun hz132 => ?_)
      refine gj_idiv C dX5_spendsAs_132 hz132 ?_
      refine gj_goto (tgt := 138) C dX5_spendsAs_133 (by decide) ?_
      exact gj_to [1, 2, 3, 4, 5] (J138 a1 a2 a3 a4 (zdiv s0 2)) rfl
  have J97 : ∀ (a1 a2 a3 a4 s0 : Int), GJ X 8 (mWo g (cx_s X).heap) Q (m5_spendsAs_j97 a1 a2 a3 a4 s0) 97 [(0, .ref (g.2.2)), (1, .int (iI a1)), (2, .int (iI a2)), (3, .int (iI a3)), (4, .int (iI a4))] [.int (iI s0)] := by
    intro a1 a2 a3 a4 s0
    unfold m5_spendsAs_j97
    refine gj_istore (L' := [(5, _), (0, _), (1, _), (2, _), (3, _), (4, _)]) C dX5_spendsAs_97 (by decide) rfl ?_
    refine gj_iload C dX5_spendsAs_99 0 rfl ?_
    refine gj_aload_n C dX5_spendsAs_101 1 rfl ?_
    refine mj_getR (kf := 21) (j := 12) C K dX5_spendsAs_102 (by decide) (by decide) rfl (by decide) q1892 rfl ?_
    refine gj_iconst C dX5_spendsAs_105 ?_
    refine mj_iald (j := 12) C K dX5_spendsAs_106 (by decide) rfl (fun v106 => ?_)
    refine gj_icmp_le (tgt := 119) C dX5_spendsAs_107 (by decide) rfl rfl (fun h107 => gj_neg h107 ?_) (fun h107 => gj_pos h107 ?_)
    · refine gj_iload C dX5_spendsAs_119 0 rfl ?_
      exact gj_to [1, 2, 3, 4, 5] (J121 a1 a2 a3 a4 s0) rfl
    · refine gj_aload_n C dX5_spendsAs_110 1 rfl ?_
      refine mj_getR (kf := 21) (j := 12) C K dX5_spendsAs_111 (by decide) (by decide) rfl (by decide) q1892 rfl ?_
      refine gj_iconst C dX5_spendsAs_114 ?_
      refine mj_iald (j := 12) C K dX5_spendsAs_115 (by decide) rfl (fun v115 => ?_)
      refine gj_goto (tgt := 121) C dX5_spendsAs_116 (by decide) ?_
      exact gj_to [1, 2, 3, 4, 5] (J121 a1 a2 a3 a4 v115) rfl
  have J68 : ∀ (a1 a2 a3 a4 s0 : Int), GJ X 8 (mWo g (cx_s X).heap) Q (m5_spendsAs_j68 a1 a2 a3 a4 s0) 68 [(0, .ref (g.2.2)), (1, .int (iI a1)), (2, .int (iI a2)), (3, .int (iI a3)), (4, .int (iI a4))] [.int (iI s0)] := by
    intro a1 a2 a3 a4 s0
    unfold m5_spendsAs_j68
    refine gj_istore (L' := [(5, _), (0, _), (1, _), (2, _), (3, _), (4, _)]) C dX5_spendsAs_68 (by decide) rfl ?_
    refine gj_iload C dX5_spendsAs_70 0 rfl ?_
    refine gj_if_ge (tgt := 79) C dX5_spendsAs_72 (by decide) (fun h72 => gj_neg h72 ?_) (fun h72 => gj_pos h72 ?_)
    · refine gj_iload C dX5_spendsAs_79 0 rfl ?_
      refine gj_aload_n C dX5_spendsAs_81 1 rfl ?_
      refine mj_getI (kf := 26) C K dX5_spendsAs_82 (by decide) (by decide) rfl q1897 rfl (fun v82 => ?_)
      refine gj_icmp_le (tgt := 95) C dX5_spendsAs_85 (by decide) rfl rfl (fun h85 => gj_neg h85 ?_) (fun h85 => gj_pos h85 ?_)
      · refine gj_iload C dX5_spendsAs_95 0 rfl ?_
        exact gj_to [1, 2, 3, 4, 5] (J97 a1 a2 a3 a4 s0) rfl
      · refine gj_aload_n C dX5_spendsAs_88 1 rfl ?_
        refine mj_getI (kf := 26) C K dX5_spendsAs_89 (by decide) (by decide) rfl q1897 rfl (fun v89 => ?_)
        refine gj_goto (tgt := 97) C dX5_spendsAs_92 (by decide) ?_
        exact gj_to [1, 2, 3, 4, 5] (J97 a1 a2 a3 a4 v89) rfl
    · refine gj_iconst C dX5_spendsAs_75 ?_
      refine gj_goto (tgt := 97) C dX5_spendsAs_76 (by decide) ?_
      exact gj_to [1, 2, 3, 4, 5] (J97 a1 a2 a3 a4 0) rfl
  unfold m5_spendsAs
  refine gj_aload_n C dX5_spendsAs_0 0 rfl ?_
  refine mj_getR (kf := 23) (j := 14) C K dX5_spendsAs_1 (by decide) (by decide) rfl (by decide) q1894 rfl ?_
  refine gj_iload_n C dX5_spendsAs_4 1 rfl ?_
  refine gj_bipush C dX5_spendsAs_5 rfl ?_
  refine gj_iadd C dX5_spendsAs_7 ?_
  refine gj_iload_n C dX5_spendsAs_8 2 rfl ?_
  refine gj_iadd C dX5_spendsAs_9 ?_
  refine mj_iald (j := 14) C K dX5_spendsAs_10 (by decide) rfl (fun v10 => ?_)
  refine gj_istore_n (L' := [(3, _), (0, _), (1, _), (2, _)]) C dX5_spendsAs_11 (by decide) rfl ?_
  refine gj_aload_n C dX5_spendsAs_12 1 rfl ?_
  refine gj_iload_n C dX5_spendsAs_13 0 rfl ?_
  refine gj_iconst C dX5_spendsAs_14 ?_
  refine mj_callVI (As := [.int (iI v10), .int (iI 0)]) (rest := []) C K dX5_spendsAs_15 (met5_personOf (cx_l X) g v10 0) (lw_V q1855 q1857 qs56 q134 q1858) hy5_personOf hR (Nat.le_of_ble_eq_true rfl) (by decide) rfl rfl (Nat.zero_le _) (fun v15 => ?_)
  refine gj_istore (L' := [(4, _), (3, _), (0, _), (1, _), (2, _)]) C dX5_spendsAs_18 (by decide) rfl ?_
  refine gj_aload_n C dX5_spendsAs_20 2 rfl ?_
  refine gj_iload_n C dX5_spendsAs_21 3 rfl ?_
  refine gj_iload_n C dX5_spendsAs_22 4 rfl ?_
  refine gj_iload_n C dX5_spendsAs_23 1 rfl ?_
  refine gj_iload C dX5_spendsAs_24 0 rfl ?_
  refine gj_iconst C dX5_spendsAs_26 ?_
  refine gj_dia (J := 35) (L := [(4, .int (iI v15)), (3, .int (iI v10)), (0, .ref (g.2.2)), (1, .int (iI a1)), (2, .int (iI a2))]) (st := [.int (iI v10), .int (iI a2), .int (iI a1), .ref (g.2.2)]) (fun d35 => ?_) (fun t hJ => ?_)
  · skip
    refine mj_callVV (As := [.int (iI a1), .int (iI a2), .int (iI v10), .int (iI d35)]) (rest := []) C K dX5_spendsAs_35 (met5_laysFacts (cx_l X) g a1 a2 v10 d35) (lw_V q2229 q2231 qs102 q134 q2232) hy5_laysFacts hR (Nat.le_of_ble_eq_true rfl) (by decide) rfl rfl (Nat.zero_le _) ?_
    refine gj_aload_n C dX5_spendsAs_38 2 rfl ?_
    refine mj_getR (kf := 10) (j := 6) C K dX5_spendsAs_39 (by decide) (by decide) rfl (by decide) q1881 rfl ?_
    refine gj_iconst C dX5_spendsAs_42 ?_
    refine mj_iald (j := 6) C K dX5_spendsAs_43 (by decide) rfl (fun v43 => ?_)
    refine gj_if_ge (tgt := 58) C dX5_spendsAs_44 (by decide) (fun h44 => gj_neg h44 ?_) (fun h44 => gj_pos h44 ?_)
    · refine gj_aload_n C dX5_spendsAs_58 2 rfl ?_
      refine gj_aload_n C dX5_spendsAs_59 2 rfl ?_
      refine mj_getR (kf := 10) (j := 6) C K dX5_spendsAs_60 (by decide) (by decide) rfl (by decide) q1881 rfl ?_
      refine gj_iconst C dX5_spendsAs_63 ?_
      refine mj_iald (j := 6) C K dX5_spendsAs_64 (by decide) rfl (fun v64 => ?_)
      refine mj_callVI (As := [.int (iI v64)]) (rest := []) C K dX5_spendsAs_65 (met5_worthAt (cx_l X) g v64) (lw_V q2237 q2239 qs104 q134 q2240) hy5_worthAt hR (Nat.le_of_ble_eq_true rfl) (by decide) rfl rfl (Nat.zero_le _) (fun v65 => ?_)
      exact gj_to [2, 3, 4, 1, 0] (J68 a1 a2 v10 v15 v65) rfl
    · refine gj_aload_n C dX5_spendsAs_47 2 rfl ?_
      refine mj_getR (kf := 21) (j := 12) C K dX5_spendsAs_48 (by decide) (by decide) rfl (by decide) q1892 rfl ?_
      refine gj_iconst C dX5_spendsAs_51 ?_
      refine mj_iald (j := 12) C K dX5_spendsAs_52 (by decide) rfl (fun v52 => ?_)
      refine gj_iconst C dX5_spendsAs_53 ?_
      refine gj_imul C dX5_spendsAs_54 ?_
      refine gj_goto (tgt := 68) C dX5_spendsAs_55 (by decide) ?_
      exact gj_to [2, 3, 4, 1, 0] (J68 a1 a2 v10 v15 (v52 * 2)) rfl
  · refine gj_icmp_ne (tgt := 34) (b' := 2) C dX5_spendsAs_27 (by decide) rfl (by decide) (fun h27 => ?_) (fun h27 => ?_)
    · refine gj_iconst C dX5_spendsAs_34 ?_
      exact (by rw [if_neg h27] at hJ; exact hJ)
    · refine gj_iconst C dX5_spendsAs_30 ?_
      refine gj_goto (tgt := 35) C dX5_spendsAs_31 (by decide) ?_
      exact (by rw [if_pos h27] at hJ; exact hJ)
def m5_passes_b2 (a1 : Int) (a2 : Int) (bk2 : (Int) → MM Unit) : MM Unit :=
  pbnd (m5_people) fun v4 =>
  pite (w32 a2 < w32 v4) (
    pbnd (m5_spendsAs a1 a2) fun _ =>
    pbnd (m5_mendsAs a1 a2) fun _ =>
    bk2 (a2 + 1)) (
    pbnd (mrd 14 1656 (a1 + 1)) fun v36 =>
    pbnd (mwr 14 1656 (a1 + 1) (w32 (v36 + 1))) fun _ =>
    pret ())
def m5_passes_l2 (a1 a2 : Int) : MM Unit :=
  ploop (fun (s : (Int)) bk2 => m5_passes_b2 a1 s bk2) (a2)
def m5_passes (a1 : Int) : MM Unit :=
  m5_passes_l2 a1 0
set_option maxHeartbeats 4000000 in
set_option maxRecDepth 100000 in
theorem met5_passes (l : Launch) (g : MG) (a1 : Int) : MMet l g yX5_passes cX5_passes 3 (Option.none : Option Jvm.ClassFile.FieldType) (3) [.ref (g.2.2), .int (iI a1)] (m5_passes a1) rvV := by
  refine mj_start (by decide +kernel) rfl (Nat.le_of_ble_eq_true rfl) (fun X Q hl C K hQ hR hr => ?_)
  subst hl
  show GJ X 3 (mWo g (cx_s X).heap) Q (m5_passes a1) 0 [(0, .ref (g.2.2)), (1, .int (iI a1))] []
  have J2 : ∀ (a1 a2 : Int), GJ X 3 (mWo g (cx_s X).heap) Q (m5_passes_l2 a1 a2) 2 [(0, .ref (g.2.2)), (1, .int (iI a1)), (2, .int (iI a2))] [] := by
    intro a1 a2
    unfold m5_passes_l2
    refine gj_loop (fun (s : (Int)) => [(0, .ref (g.2.2)), (1, .int (iI a1)), (2, .int (iI s))]) (a2) (fun bk2 hb2 s => ?_)
    obtain ⟨a2, rfl⟩ : ∃ z, z = s := ⟨s, rfl⟩
    show GJ X 3 (mWo g (cx_s X).heap) Q (m5_passes_b2 a1 a2 bk2) 2 [(0, .ref (g.2.2)), (1, .int (iI a1)), (2, .int (iI a2))] []
    unfold m5_passes_b2
    refine gj_iload_n C dX5_passes_2 2 rfl ?_
    refine gj_aload_n C dX5_passes_3 0 rfl ?_
    refine mj_callVI (As := []) (rest := [.int (iI a2)]) C K dX5_passes_4 (met5_people (cx_l X) g) (lw_V q1851 q1853 qs55 q134 q1854) hy5_people hR (Nat.le_of_ble_eq_true rfl) (by decide) rfl rfl (Nat.le_of_ble_eq_true rfl) (fun v4 => ?_)
    refine gj_icmp_ge (tgt := 28) C dX5_passes_7 (by decide) rfl rfl (fun h7 => gj_neg h7 ?_) (fun h7 => gj_pos h7 ?_)
    · refine gj_aload_n C dX5_passes_28 0 rfl ?_
      refine mj_getR (kf := 23) (j := 14) C K dX5_passes_29 (by decide) (by decide) rfl (by decide) q1894 rfl ?_
      refine gj_iload_n C dX5_passes_32 1 rfl ?_
      refine gj_iconst C dX5_passes_33 ?_
      refine gj_iadd C dX5_passes_34 ?_
      refine gj_dup2 C dX5_passes_35 rfl rfl ?_
      refine mj_iald (j := 14) C K dX5_passes_36 (by decide) rfl (fun v36 => ?_)
      refine gj_iconst C dX5_passes_37 ?_
      refine gj_iadd C dX5_passes_38 ?_
      refine gj_nrmI ?_
      refine mj_iast (j := 14) C K dX5_passes_39 (by decide) (by decide) rfl ?_
      exact mj_vret C hQ hr dX5_passes_40
    · refine gj_aload_n C dX5_passes_10 0 rfl ?_
      refine gj_iload_n C dX5_passes_11 1 rfl ?_
      refine gj_iload_n C dX5_passes_12 2 rfl ?_
      refine mj_callVV (As := [.int (iI a1), .int (iI a2)]) (rest := []) C K dX5_passes_13 (met5_spendsAs (cx_l X) g a1 a2) (lw_V q2225 q2227 qs101 q134 q2228) hy5_spendsAs hR (Nat.le_of_ble_eq_true rfl) (by decide) rfl rfl (Nat.zero_le _) ?_
      refine gj_aload_n C dX5_passes_16 0 rfl ?_
      refine gj_iload_n C dX5_passes_17 1 rfl ?_
      refine gj_iload_n C dX5_passes_18 2 rfl ?_
      refine mj_callVV (As := [.int (iI a1), .int (iI a2)]) (rest := []) C K dX5_passes_19 (met5_mendsAs (cx_l X) g a1 a2) (lw_V q2252 q2254 qs107 q134 q2255) hy5_mendsAs hR (Nat.le_of_ble_eq_true rfl) (by decide) rfl rfl (Nat.zero_le _) ?_
      refine gj_iinc (L' := [(2, _), (0, _), (1, _)]) C dX5_passes_22 2 rfl (by decide) rfl ?_
      refine gj_goto (tgt := 2) C dX5_passes_25 (by decide) ?_
      exact gj_to [1, 2, 0] (hb2 (a2 + 1)) rfl
  unfold m5_passes
  refine gj_iconst C dX5_passes_0 ?_
  refine gj_istore_n (L' := [(2, _), (0, _), (1, _)]) C dX5_passes_1 (by decide) rfl ?_
  exact gj_to [1, 2, 0] (J2 a1 0) rfl
def m5_day : MM Int :=
  pbnd (mput 0 0) fun _ =>
  pbnd (m5_mayPass 0) fun v7 =>
  pite (w32 v7 = 0) (
    pret (-1)) (
    pbnd (m5_keeps) fun _ =>
    pbnd (m5_passes 0) fun _ =>
    pbnd (mrd 14 1656 1) fun v29 =>
    pret v29)
set_option maxHeartbeats 4000000 in
set_option maxRecDepth 100000 in
theorem met5_day (l : Launch) (g : MG) : MMet l g yX5_day cX5_day 1 (Option.some Jvm.ClassFile.FieldType.int) (4) [.ref (g.2.2)] (m5_day) rvI := by
  refine mj_start (by decide +kernel) rfl (Nat.le_of_ble_eq_true rfl) (fun X Q hl C K hQ hR hr => ?_)
  subst hl
  show GJ X 1 (mWo g (cx_s X).heap) Q (m5_day) 0 [(0, .ref (g.2.2))] []
  unfold m5_day
  refine gj_aload_n C dX5_day_0 0 rfl ?_
  refine gj_iconst C dX5_day_1 ?_
  refine mj_putI (kf := 0) C K dX5_day_2 (by decide) (by decide) rfl q1871 rfl rfl (by decide +kernel) ?_
  refine gj_aload_n C dX5_day_5 0 rfl ?_
  refine gj_iconst C dX5_day_6 ?_
  refine mj_callVI (As := [.int (iI 0)]) (rest := []) C K dX5_day_7 (met5_mayPass (cx_l X) g 0) (lw_V q2217 q2219 qs99 q134 q2220) hy5_mayPass hR (Nat.le_of_ble_eq_true rfl) (by decide) rfl rfl (Nat.zero_le _) (fun v7 => ?_)
  refine gj_if_ne (tgt := 15) C dX5_day_10 (by decide) (fun h10 => gj_neg h10 ?_) (fun h10 => gj_pos h10 ?_)
  · refine gj_aload_n C dX5_day_15 0 rfl ?_
    refine mj_callVV (As := []) (rest := []) C K dX5_day_16 (met5_keeps (cx_l X) g) (lw_V q2165 q2167 qs90 q134 q2168) hy5_keeps hR (Nat.le_of_ble_eq_true rfl) (by decide) rfl rfl (Nat.zero_le _) ?_
    refine gj_aload_n C dX5_day_19 0 rfl ?_
    refine gj_iconst C dX5_day_20 ?_
    refine mj_callVV (As := [.int (iI 0)]) (rest := []) C K dX5_day_21 (met5_passes (cx_l X) g 0) (lw_V q2221 q2223 qs100 q134 q2224) hy5_passes hR (Nat.le_of_ble_eq_true rfl) (by decide) rfl rfl (Nat.zero_le _) ?_
    refine gj_aload_n C dX5_day_24 0 rfl ?_
    refine mj_getR (kf := 23) (j := 14) C K dX5_day_25 (by decide) (by decide) rfl (by decide) q1894 rfl ?_
    refine gj_iconst C dX5_day_28 ?_
    refine mj_iald (j := 14) C K dX5_day_29 (by decide) rfl (fun v29 => ?_)
    exact mj_iret C hQ hr dX5_day_30
  · refine gj_iconst C dX5_day_13 ?_
    exact mj_iret C hQ hr dX5_day_14
def m5_allHarm_b5 (a1 a2 : Int) (a3 a4 : Int) (bk5 : (Int × Int) → MM Int) : MM Int :=
  pbnd (m5_people) fun v8 =>
  pite (w32 a4 < w32 v8) (
    pbnd (m5_harmOf a1 a4 a2) fun v20 =>
    plet (a3 + v20) fun x24 =>
    bk5 (x24, a4 + 1)) (
    pret (w32 a3))
def m5_allHarm_l5 (a1 a2 a3 a4 : Int) : MM Int :=
  ploop (fun (s : (Int × Int)) bk5 => m5_allHarm_b5 a1 a2 s.1 s.2 bk5) (a3, a4)
def m5_allHarm (a1 a2 : Int) : MM Int :=
  m5_allHarm_l5 a1 a2 0 0
set_option maxHeartbeats 4000000 in
set_option maxRecDepth 100000 in
theorem met5_allHarm (l : Launch) (g : MG) (a1 a2 : Int) : MMet l g yX5_allHarm cX5_allHarm 5 (Option.some Jvm.ClassFile.FieldType.int) (1) [.ref (g.2.2), .int (iI a1), .int (iI a2)] (m5_allHarm a1 a2) rvI := by
  refine mj_start (by decide +kernel) rfl (Nat.le_of_ble_eq_true rfl) (fun X Q hl C K hQ hR hr => ?_)
  subst hl
  show GJ X 5 (mWo g (cx_s X).heap) Q (m5_allHarm a1 a2) 0 [(0, .ref (g.2.2)), (1, .int (iI a1)), (2, .int (iI a2))] []
  have J5 : ∀ (a1 a2 a3 a4 : Int), GJ X 5 (mWo g (cx_s X).heap) Q (m5_allHarm_l5 a1 a2 a3 a4) 5 [(0, .ref (g.2.2)), (1, .int (iI a1)), (2, .int (iI a2)), (3, .int (iI a3)), (4, .int (iI a4))] [] := by
    intro a1 a2 a3 a4
    unfold m5_allHarm_l5
    refine gj_loop (fun (s : (Int × Int)) => [(0, .ref (g.2.2)), (1, .int (iI a1)), (2, .int (iI a2)), (3, .int (iI (s.1))), (4, .int (iI (s.2)))]) (a3, a4) (fun bk5 hb5 s => ?_)
    obtain ⟨a3, a4⟩ := s
    show GJ X 5 (mWo g (cx_s X).heap) Q (m5_allHarm_b5 a1 a2 a3 a4 bk5) 5 [(0, .ref (g.2.2)), (1, .int (iI a1)), (2, .int (iI a2)), (3, .int (iI a3)), (4, .int (iI a4))] []
    unfold m5_allHarm_b5
    refine gj_iload C dX5_allHarm_5 4 rfl ?_
    refine gj_aload_n C dX5_allHarm_7 0 rfl ?_
    refine mj_callVI (As := []) (rest := [.int (iI a4)]) C K dX5_allHarm_8 (met5_people (cx_l X) g) (lw_V q1851 q1853 qs55 q134 q1854) hy5_people hR (Nat.le_of_ble_eq_true rfl) (by decide) rfl rfl (Nat.le_of_ble_eq_true rfl) (fun v8 => ?_)
    refine gj_icmp_ge (tgt := 31) C dX5_allHarm_11 (by decide) rfl rfl (fun h11 => gj_neg h11 ?_) (fun h11 => gj_pos h11 ?_)
    · refine gj_iload_n C dX5_allHarm_31 3 rfl ?_
      refine gj_nrmI ?_
      exact mj_iret C hQ hr dX5_allHarm_32
    · refine gj_iload_n C dX5_allHarm_14 3 rfl ?_
      refine gj_aload_n C dX5_allHarm_15 0 rfl ?_
      refine gj_iload_n C dX5_allHarm_16 1 rfl ?_
      refine gj_iload C dX5_allHarm_17 4 rfl ?_
      refine gj_iload_n C dX5_allHarm_19 2 rfl ?_
      refine mj_callVI (As := [.int (iI a1), .int (iI a4), .int (iI a2)]) (rest := [.int (iI a3)]) C K dX5_allHarm_20 (met5_harmOf (cx_l X) g a1 a4 a2) (lw_V q2149 q2151 qs88 q134 q2152) hy5_harmOf hR (Nat.le_of_ble_eq_true rfl) (by decide) rfl rfl (Nat.le_of_ble_eq_true rfl) (fun v20 => ?_)
      refine gj_iadd C dX5_allHarm_23 ?_
      refine gj_let (fun x24 => ?_)
      refine gj_istore_n (L' := [(3, _), (0, _), (1, _), (2, _), (4, _)]) C dX5_allHarm_24 (by decide) rfl ?_
      refine gj_iinc (L' := [(4, _), (3, _), (0, _), (1, _), (2, _)]) C dX5_allHarm_25 4 rfl (by decide) rfl ?_
      refine gj_goto (tgt := 5) C dX5_allHarm_28 (by decide) ?_
      exact gj_to [2, 3, 4, 1, 0] (hb5 (x24, a4 + 1)) rfl
  unfold m5_allHarm
  refine gj_iconst C dX5_allHarm_0 ?_
  refine gj_istore_n (L' := [(3, _), (0, _), (1, _), (2, _)]) C dX5_allHarm_1 (by decide) rfl ?_
  refine gj_iconst C dX5_allHarm_2 ?_
  refine gj_istore (L' := [(4, _), (3, _), (0, _), (1, _), (2, _)]) C dX5_allHarm_3 (by decide) rfl ?_
  exact gj_to [2, 3, 4, 1, 0] (J5 a1 a2 0 0) rfl
def m5_goesHome_b51 (a1 a2 : Int) (a3 : Int) (bk51 : (Int) → MM Int) : MM Int :=
  pbnd (m5_people) fun v53 =>
  pite (w32 a3 < w32 v53) (
    pbnd (mwr 14 1656 (((a1 + 28)) + a3) (w32 a3)) fun _ =>
    pbnd (mwr 14 1656 (((a1 + 22)) + a3) 0) fun _ =>
    bk51 (a3 + 1)) (
    pret (w32 a2))
def m5_goesHome_l51 (a1 a2 a3 : Int) : MM Int :=
  ploop (fun (s : (Int)) bk51 => m5_goesHome_b51 a1 a2 s bk51) (a3)
def m5_goesHome (a1 : Int) : MM Int :=
  pbnd (m5_allHarm a1 0) fun v3 =>
  pbnd (mwr 14 1656 (a1 + 0) 0) fun _ =>
  pbnd (mwr 14 1656 (a1 + 1) 0) fun _ =>
  pbnd (mrd 14 1656 (a1 + 2)) fun v33 =>
  pbnd (mwr 14 1656 (a1 + 2) (w32 (v33 + 1))) fun _ =>
  pbnd (mrd 14 1656 (a1 + 3)) fun v45 =>
  pbnd (mwr 14 1656 (a1 + 3) (w32 (v45 + v3))) fun _ =>
  m5_goesHome_l51 a1 v3 0
set_option maxHeartbeats 4000000 in
set_option maxRecDepth 100000 in
theorem met5_goesHome (l : Launch) (g : MG) (a1 : Int) : MMet l g yX5_goesHome cX5_goesHome 4 (Option.some Jvm.ClassFile.FieldType.int) (2) [.ref (g.2.2), .int (iI a1)] (m5_goesHome a1) rvI := by
  refine mj_start (by decide +kernel) rfl (Nat.le_of_ble_eq_true rfl) (fun X Q hl C K hQ hR hr => ?_)
  subst hl
  show GJ X 4 (mWo g (cx_s X).heap) Q (m5_goesHome a1) 0 [(0, .ref (g.2.2)), (1, .int (iI a1))] []
  have J51 : ∀ (a1 a2 a3 : Int), GJ X 4 (mWo g (cx_s X).heap) Q (m5_goesHome_l51 a1 a2 a3) 51 [(0, .ref (g.2.2)), (1, .int (iI a1)), (2, .int (iI a2)), (3, .int (iI a3))] [] := by
    intro a1 a2 a3
    unfold m5_goesHome_l51
    refine gj_loop (fun (s : (Int)) => [(0, .ref (g.2.2)), (1, .int (iI a1)), (2, .int (iI a2)), (3, .int (iI s))]) (a3) (fun bk51 hb51 s => ?_)
    obtain ⟨a3, rfl⟩ : ∃ z, z = s := ⟨s, rfl⟩
    show GJ X 4 (mWo g (cx_s X).heap) Q (m5_goesHome_b51 a1 a2 a3 bk51) 51 [(0, .ref (g.2.2)), (1, .int (iI a1)), (2, .int (iI a2)), (3, .int (iI a3))] []
    unfold m5_goesHome_b51
    refine gj_iload_n C dX5_goesHome_51 3 rfl ?_
    refine gj_aload_n C dX5_goesHome_52 0 rfl ?_
    refine mj_callVI (As := []) (rest := [.int (iI a3)]) C K dX5_goesHome_53 (met5_people (cx_l X) g) (lw_V q1851 q1853 qs55 q134 q1854) hy5_people hR (Nat.le_of_ble_eq_true rfl) (by decide) rfl rfl (Nat.le_of_ble_eq_true rfl) (fun v53 => ?_)
    refine gj_icmp_ge (tgt := 89) C dX5_goesHome_56 (by decide) rfl rfl (fun h56 => gj_neg h56 ?_) (fun h56 => gj_pos h56 ?_)
    · refine gj_iload_n C dX5_goesHome_89 2 rfl ?_
      refine gj_nrmI ?_
      exact mj_iret C hQ hr dX5_goesHome_90
    · refine gj_aload_n C dX5_goesHome_59 0 rfl ?_
      refine mj_getR (kf := 23) (j := 14) C K dX5_goesHome_60 (by decide) (by decide) rfl (by decide) q1894 rfl ?_
      refine gj_iload_n C dX5_goesHome_63 1 rfl ?_
      refine gj_bipush C dX5_goesHome_64 rfl ?_
      refine gj_iadd C dX5_goesHome_66 ?_
      refine gj_iload_n C dX5_goesHome_67 3 rfl ?_
      refine gj_iadd C dX5_goesHome_68 ?_
      refine gj_iload_n C dX5_goesHome_69 3 rfl ?_
      refine gj_nrmI ?_
      refine mj_iast (j := 14) C K dX5_goesHome_70 (by decide) (by decide) rfl ?_
      refine gj_aload_n C dX5_goesHome_71 0 rfl ?_
      refine mj_getR (kf := 23) (j := 14) C K dX5_goesHome_72 (by decide) (by decide) rfl (by decide) q1894 rfl ?_
      refine gj_iload_n C dX5_goesHome_75 1 rfl ?_
      refine gj_bipush C dX5_goesHome_76 rfl ?_
      refine gj_iadd C dX5_goesHome_78 ?_
      refine gj_iload_n C dX5_goesHome_79 3 rfl ?_
      refine gj_iadd C dX5_goesHome_80 ?_
      refine gj_iconst C dX5_goesHome_81 ?_
      refine mj_iast (j := 14) C K dX5_goesHome_82 (by decide) (by decide) rfl ?_
      refine gj_iinc (L' := [(3, _), (0, _), (1, _), (2, _)]) C dX5_goesHome_83 3 rfl (by decide) rfl ?_
      refine gj_goto (tgt := 51) C dX5_goesHome_86 (by decide) ?_
      exact gj_to [1, 2, 3, 0] (hb51 (a3 + 1)) rfl
  unfold m5_goesHome
  refine gj_aload_n C dX5_goesHome_0 0 rfl ?_
  refine gj_iload_n C dX5_goesHome_1 1 rfl ?_
  refine gj_iconst C dX5_goesHome_2 ?_
  refine mj_callVI (As := [.int (iI a1), .int (iI 0)]) (rest := []) C K dX5_goesHome_3 (met5_allHarm (cx_l X) g a1 0) (lw_V q2264 q2266 qs109 q134 q2267) hy5_allHarm hR (Nat.le_of_ble_eq_true rfl) (by decide) rfl rfl (Nat.zero_le _) (fun v3 => ?_)
  refine gj_istore_n (L' := [(2, _), (0, _), (1, _)]) C dX5_goesHome_6 (by decide) rfl ?_
  refine gj_aload_n C dX5_goesHome_7 1 rfl ?_
  refine mj_getR (kf := 23) (j := 14) C K dX5_goesHome_8 (by decide) (by decide) rfl (by decide) q1894 rfl ?_
  refine gj_iload_n C dX5_goesHome_11 2 rfl ?_
  refine gj_iconst C dX5_goesHome_12 ?_
  refine gj_iadd C dX5_goesHome_13 ?_
  refine gj_iconst C dX5_goesHome_14 ?_
  refine mj_iast (j := 14) C K dX5_goesHome_15 (by decide) (by decide) rfl ?_
  refine gj_aload_n C dX5_goesHome_16 1 rfl ?_
  refine mj_getR (kf := 23) (j := 14) C K dX5_goesHome_17 (by decide) (by decide) rfl (by decide) q1894 rfl ?_
  refine gj_iload_n C dX5_goesHome_20 2 rfl ?_
  refine gj_iconst C dX5_goesHome_21 ?_
  refine gj_iadd C dX5_goesHome_22 ?_
  refine gj_iconst C dX5_goesHome_23 ?_
  refine mj_iast (j := 14) C K dX5_goesHome_24 (by decide) (by decide) rfl ?_
  refine gj_aload_n C dX5_goesHome_25 1 rfl ?_
  refine mj_getR (kf := 23) (j := 14) C K dX5_goesHome_26 (by decide) (by decide) rfl (by decide) q1894 rfl ?_
  refine gj_iload_n C dX5_goesHome_29 2 rfl ?_
  refine gj_iconst C dX5_goesHome_30 ?_
  refine gj_iadd C dX5_goesHome_31 ?_
  refine gj_dup2 C dX5_goesHome_32 rfl rfl ?_
  refine mj_iald (j := 14) C K dX5_goesHome_33 (by decide) rfl (fun v33 => ?_)
  refine gj_iconst C dX5_goesHome_34 ?_
  refine gj_iadd C dX5_goesHome_35 ?_
  refine gj_nrmI ?_
  refine mj_iast (j := 14) C K dX5_goesHome_36 (by decide) (by decide) rfl ?_
  refine gj_aload_n C dX5_goesHome_37 1 rfl ?_
  refine mj_getR (kf := 23) (j := 14) C K dX5_goesHome_38 (by decide) (by decide) rfl (by decide) q1894 rfl ?_
  refine gj_iload_n C dX5_goesHome_41 2 rfl ?_
  refine gj_iconst C dX5_goesHome_42 ?_
  refine gj_iadd C dX5_goesHome_43 ?_
  refine gj_dup2 C dX5_goesHome_44 rfl rfl ?_
  refine mj_iald (j := 14) C K dX5_goesHome_45 (by decide) rfl (fun v45 => ?_)
  refine gj_iload_n C dX5_goesHome_46 0 rfl ?_
  refine gj_iadd C dX5_goesHome_47 ?_
  refine gj_nrmI ?_
  refine mj_iast (j := 14) C K dX5_goesHome_48 (by decide) (by decide) rfl ?_
  refine gj_iconst C dX5_goesHome_49 ?_
  refine gj_istore_n (L' := [(3, _), (2, _), (0, _), (1, _)]) C dX5_goesHome_50 (by decide) rfl ?_
  exact gj_to [2, 3, 1, 0] (J51 a1 v3 0) rfl
