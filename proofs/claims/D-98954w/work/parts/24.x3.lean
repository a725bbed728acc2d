/-! THE COMPONENT: its methods as pure programs, and that the machine runs so (X2.one, X7.init, X8.init, X9.init, X10.init, X2.need, X2.number_2, X2.number, J16.copyOf_3, J16.copyOf_2, J2.grow_2, J2.grow, J2.add_2, J2.add, X2.comes, X2.person, X1.isIn, X2.isSign, X11.init, X12.init, X13.init, X14.init, X2.need_2, X15.init, X2.expression, X2.worked, X2.line): printed by genx.py -/
def x2_one (a0 a1 : Option Nat) : XT Hp Int :=
  pbnd (xrecv a0 2) fun _ =>
  pbnd (x2_which a0 a1) fun v2 =>
  pite (w32 v2 < 0) (
    pbnd (xrecv a0 2) fun _ =>
    pbnd (x2_wrong a0 1) fun v12 =>
    xthrow v12) (
    pbnd (xrecv a0 2) fun _ =>
    pbnd (x2_next a0) fun _ =>
    xret v2)
set_option maxHeartbeats 4000000 in
set_option maxRecDepth 100000 in
theorem mx2_one (l : Launch) (g : XG) (a0 a1 : Option Nat) : XMetX l g RX6 yX2_one cX2_one 3 (Option.some Jvm.ClassFile.FieldType.int) (6) [rv g a0, rv g a1] (x2_one a0 a1) rvI := by
  refine gy_start (by decide +kernel) (by have e := lg_sl_len [rv g a0, rv g a1]; simp only [List.map_cons, List.map_nil, List.sum_cons, List.sum_nil, rv_cat, cat_int, cat_long] at e; omega) (fun X Q σ0 hl C E hQ hR hr hX => ?_)
  subst hl
  rw [show lv_args 0 [rv g a0, rv g a1] = [(0, rv g a0), (1, rv g a1)] from by simp [lv_args, rv_cat, cat_int, cat_long]]
  show GJ X 3 (xWo g σ0 (cx_s X).heap) Q (x2_one a0 a1) 0 [(0, rv g a0), (1, rv g a1)] []
  unfold x2_one
  refine gx_aload_n C dX2_one_0 0 rfl ?_
  refine gx_aload_n C dX2_one_1 1 rfl ?_
  refine gx_callVI (t0 := 2) (As := [rv g a1]) (rest := []) C E rfl dX2_one_2 (mx2_which (cx_l X) g a0 a1) (lw_V q578 q580 qs3 q126 q581) hyx_X2_which rfl hR (Nat.le_of_ble_eq_true rfl) (by decide) rfl rfl (Nat.zero_le _) (fun v2 => ?_)
  refine gj_istore_n (L' := [(2, .int (iI v2)), (0, rv g a0), (1, rv g a1)]) C dX2_one_5 (by decide) (by simp [List.filter, rv_cat, cat_int, cat_long, fin4_3]) ?_
  refine gj_iload_n C dX2_one_6 0 rfl ?_
  refine gj_if_ge (tgt := 16) C dX2_one_7 (by decide) (fun h7 => gj_neg h7 ?_) (fun h7 => gj_pos h7 ?_)
  · refine gx_aload_n C dX2_one_16 1 rfl ?_
    refine gx_callVV (t0 := 2) (As := []) (rest := []) C E rfl dX2_one_17 (mx2_next (cx_l X) g a0) (lw_V q470 q472 qs1 q126 q473) hyx_X2_next rfl hR (Nat.le_of_ble_eq_true rfl) (by decide) rfl rfl (Nat.zero_le _) ?_
    refine gj_iload_n C dX2_one_20 0 rfl ?_
    exact gy_iret C hQ hr dX2_one_21
  · refine gx_aload_n C dX2_one_10 1 rfl ?_
    refine gj_iconst C dX2_one_11 ?_
    refine gx_callVR (t0 := 2) (As := [.int (iI 1)]) (rest := []) C E rfl dX2_one_12 (mx2_wrong (cx_l X) g a0 1) (lw_V q602 q604 qs4 q126 q605) hyx_X2_wrong rfl hR (Nat.le_of_ble_eq_true rfl) (by decide) rfl rfl (Nat.zero_le _) (fun v12 => ?_)
    exact gy_athrow C E hX hQ dX2_one_15
def x7_init (a0 a1 : Option Nat) : PT Hp Unit :=
  pbnd (xnn a0) fun _ =>
  pbnd (xpRs a0 [6, 7, 8, 9] 0 a1) fun _ =>
  pret ()
set_option maxHeartbeats 4000000 in
set_option maxRecDepth 100000 in
theorem mx7_init (l : Launch) (g : XG) (a0 a1 : Option Nat) : XMet l g yX7_init cX7_init 2 (Option.none : Option Jvm.ClassFile.FieldType) (1) [rv g a0, rv g a1] (x7_init a0 a1) rvV := by
  refine gx_start (by decide +kernel) (by have e := lg_sl_len [rv g a0, rv g a1]; simp only [List.map_cons, List.map_nil, List.sum_cons, List.sum_nil, rv_cat, cat_int, cat_long] at e; omega) (fun X Q σ0 hl C E hQ hR hr hnm => ?_)
  subst hl
  rw [show lv_args 0 [rv g a0, rv g a1] = [(0, rv g a0), (1, rv g a1)] from by simp [lv_args, rv_cat, cat_int, cat_long]]
  show GJ X 2 (xWo g σ0 (cx_s X).heap) Q (x7_init a0 a1) 0 [(0, rv g a0), (1, rv g a1)] []
  unfold x7_init
  refine gx_aload_n C dX7_init_0 0 rfl ?_
  refine gx_objinit C E dX7_init_1 q876 q180 q181 hR (Nat.le_of_ble_eq_true rfl) (Nat.zero_le _) ?_
  refine gx_aload_n C dX7_init_4 0 rfl ?_
  refine gx_aload_n C dX7_init_5 1 rfl ?_
  refine gx_pRs (O := "BorrowedLives$Person") (nm := "name") (ds := "Ljava/lang/String;") (fin := true) (ty := (.object "java/lang/String")) C E dX7_init_6 (by decide +kernel) (Or.inl q877) (fun _ h => h) (fun _ => ⟨hnm, rfl⟩) (by decide +kernel) (by decide) ?_
  exact gx_vret C hQ hr dX7_init_9
def x8_init (a0 a1 : Option Nat) : PT Hp Unit :=
  pbnd (xnn a0) fun _ =>
  pbnd (x7_init a0 a1) fun _ =>
  pret ()
set_option maxHeartbeats 4000000 in
set_option maxRecDepth 100000 in
theorem mx8_init (l : Launch) (g : XG) (a0 a1 : Option Nat) : XMet l g yX8_init cX8_init 2 (Option.none : Option Jvm.ClassFile.FieldType) (2) [rv g a0, rv g a1] (x8_init a0 a1) rvV := by
  refine gx_start (by decide +kernel) (by have e := lg_sl_len [rv g a0, rv g a1]; simp only [List.map_cons, List.map_nil, List.sum_cons, List.sum_nil, rv_cat, cat_int, cat_long] at e; omega) (fun X Q σ0 hl C E hQ hR hr hnm => ?_)
  subst hl
  rw [show lv_args 0 [rv g a0, rv g a1] = [(0, rv g a0), (1, rv g a1)] from by simp [lv_args, rv_cat, cat_int, cat_long]]
  show GJ X 2 (xWo g σ0 (cx_s X).heap) Q (x8_init a0 a1) 0 [(0, rv g a0), (1, rv g a1)] []
  unfold x8_init
  refine gx_aload_n C dX8_init_0 0 rfl ?_
  refine gx_aload_n C dX8_init_1 1 rfl ?_
  refine gx_callIV (As := [rv g a1]) (rest := []) C E dX8_init_2 (mx7_init (cx_l X) g a0 a1) (lw_meth q875) q149 q907 q874 rfl hyx_X7_init hR (Nat.le_of_ble_eq_true rfl) (by decide) rfl rfl (Nat.zero_le _) ?_
  exact gx_vret C hQ hr dX8_init_5
def x9_init (a0 a1 : Option Nat) : PT Hp Unit :=
  pbnd (xnn a0) fun _ =>
  pbnd (x7_init a0 a1) fun _ =>
  pret ()
set_option maxHeartbeats 4000000 in
set_option maxRecDepth 100000 in
theorem mx9_init (l : Launch) (g : XG) (a0 a1 : Option Nat) : XMet l g yX9_init cX9_init 2 (Option.none : Option Jvm.ClassFile.FieldType) (2) [rv g a0, rv g a1] (x9_init a0 a1) rvV := by
  refine gx_start (by decide +kernel) (by have e := lg_sl_len [rv g a0, rv g a1]; simp only [List.map_cons, List.map_nil, List.sum_cons, List.sum_nil, rv_cat, cat_int, cat_long] at e; omega) (fun X Q σ0 hl C E hQ hR hr hnm => ?_)
  subst hl
  rw [show lv_args 0 [rv g a0, rv g a1] = [(0, rv g a0), (1, rv g a1)] from by simp [lv_args, rv_cat, cat_int, cat_long]]
  show GJ X 2 (xWo g σ0 (cx_s X).heap) Q (x9_init a0 a1) 0 [(0, rv g a0), (1, rv g a1)] []
  unfold x9_init
  refine gx_aload_n C dX9_init_0 0 rfl ?_
  refine gx_aload_n C dX9_init_1 1 rfl ?_
  refine gx_callIV (As := [rv g a1]) (rest := []) C E dX9_init_2 (mx7_init (cx_l X) g a0 a1) (lw_meth q875) q149 q920 q874 rfl hyx_X7_init hR (Nat.le_of_ble_eq_true rfl) (by decide) rfl rfl (Nat.zero_le _) ?_
  exact gx_vret C hQ hr dX9_init_5
def x10_init (a0 a1 : Option Nat) : PT Hp Unit :=
  pbnd (xnn a0) fun _ =>
  pbnd (x7_init a0 a1) fun _ =>
  pret ()
set_option maxHeartbeats 4000000 in
set_option maxRecDepth 100000 in
theorem mx10_init (l : Launch) (g : XG) (a0 a1 : Option Nat) : XMet l g yX10_init cX10_init 2 (Option.none : Option Jvm.ClassFile.FieldType) (2) [rv g a0, rv g a1] (x10_init a0 a1) rvV := by
  refine gx_start (by decide +kernel) (by have e := lg_sl_len [rv g a0, rv g a1]; simp only [List.map_cons, List.map_nil, List.sum_cons, List.sum_nil, rv_cat, cat_int, cat_long] at e; omega) (fun X Q σ0 hl C E hQ hR hr hnm => ?_)
  subst hl
  rw [show lv_args 0 [rv g a0, rv g a1] = [(0, rv g a0), (1, rv g a1)] from by simp [lv_args, rv_cat, cat_int, cat_long]]
  show GJ X 2 (xWo g σ0 (cx_s X).heap) Q (x10_init a0 a1) 0 [(0, rv g a0), (1, rv g a1)] []
  unfold x10_init
  refine gx_aload_n C dX10_init_0 0 rfl ?_
  refine gx_aload_n C dX10_init_1 1 rfl ?_
  refine gx_callIV (As := [rv g a1]) (rest := []) C E dX10_init_2 (mx7_init (cx_l X) g a0 a1) (lw_meth q875) q149 q933 q874 rfl hyx_X7_init hR (Nat.le_of_ble_eq_true rfl) (by decide) rfl rfl (Nat.zero_le _) ?_
  exact gx_vret C hQ hr dX10_init_5
def x2_need (a0 a1 : Option Nat) : XT Hp Unit :=
  pbnd (xrecv a0 2) fun _ =>
  pbnd (x2_which a0 a1) fun v2 =>
  pite (w32 v2 < 0) (
    pbnd (xrecv a0 2) fun _ =>
    pbnd (x2_wrong a0 1) fun v10 =>
    xthrow v10) (
    pbnd (xrecv a0 2) fun _ =>
    pbnd (x2_next a0) fun _ =>
    xret ())
set_option maxHeartbeats 4000000 in
set_option maxRecDepth 100000 in
theorem mx2_need (l : Launch) (g : XG) (a0 a1 : Option Nat) : XMetX l g RX6 yX2_need cX2_need 2 (Option.none : Option Jvm.ClassFile.FieldType) (6) [rv g a0, rv g a1] (x2_need a0 a1) rvV := by
  refine gy_start (by decide +kernel) (by have e := lg_sl_len [rv g a0, rv g a1]; simp only [List.map_cons, List.map_nil, List.sum_cons, List.sum_nil, rv_cat, cat_int, cat_long] at e; omega) (fun X Q σ0 hl C E hQ hR hr hX => ?_)
  subst hl
  rw [show lv_args 0 [rv g a0, rv g a1] = [(0, rv g a0), (1, rv g a1)] from by simp [lv_args, rv_cat, cat_int, cat_long]]
  show GJ X 2 (xWo g σ0 (cx_s X).heap) Q (x2_need a0 a1) 0 [(0, rv g a0), (1, rv g a1)] []
  unfold x2_need
  refine gx_aload_n C dX2_need_0 0 rfl ?_
  refine gx_aload_n C dX2_need_1 1 rfl ?_
  refine gx_callVI (t0 := 2) (As := [rv g a1]) (rest := []) C E rfl dX2_need_2 (mx2_which (cx_l X) g a0 a1) (lw_V q578 q580 qs3 q126 q581) hyx_X2_which rfl hR (Nat.le_of_ble_eq_true rfl) (by decide) rfl rfl (Nat.zero_le _) (fun v2 => ?_)
  refine gj_if_ge (tgt := 14) C dX2_need_5 (by decide) (fun h5 => gj_neg h5 ?_) (fun h5 => gj_pos h5 ?_)
  · refine gx_aload_n C dX2_need_14 0 rfl ?_
    refine gx_callVV (t0 := 2) (As := []) (rest := []) C E rfl dX2_need_15 (mx2_next (cx_l X) g a0) (lw_V q470 q472 qs1 q126 q473) hyx_X2_next rfl hR (Nat.le_of_ble_eq_true rfl) (by decide) rfl rfl (Nat.zero_le _) ?_
    exact gy_vret C hQ hr dX2_need_18
  · refine gx_aload_n C dX2_need_8 0 rfl ?_
    refine gj_iconst C dX2_need_9 ?_
    refine gx_callVR (t0 := 2) (As := [.int (iI 1)]) (rest := []) C E rfl dX2_need_10 (mx2_wrong (cx_l X) g a0 1) (lw_V q602 q604 qs4 q126 q605) hyx_X2_wrong rfl hR (Nat.le_of_ble_eq_true rfl) (by decide) rfl rfl (Nat.zero_le _) (fun v10 => ?_)
    exact gy_athrow C E hX hQ dX2_need_13
def x2_number_2_j30 (a0 : Option Nat) : XT Hp Int :=
  pbnd (xrecv a0 2) fun _ =>
  pbnd (x2_wrong a0 4) fun v32 =>
  xthrow v32
def x2_number_2 (a0 : Option Nat) (a1 a2 : Int) : XT Hp Int :=
  pbnd (xgI a0 2 3) fun v1 =>
  pite (w32 v1 = 2) (
    pbnd (xgI a0 2 5) fun v15 =>
    pite (w32 v15 < w32 a1) (
      x2_number_2_j30 a0) (
      pbnd (xgI a0 2 5) fun v23 =>
      pite (w32 a2 < w32 v23) (
        x2_number_2_j30 a0) (
        pbnd (xgI a0 2 5) fun v37 =>
        pbnd (xrecv a0 2) fun _ =>
        pbnd (x2_next a0) fun _ =>
        xret v37))) (
    pbnd (xrecv a0 2) fun _ =>
    pbnd (x2_wrong a0 1) fun v10 =>
    xthrow v10)
set_option maxHeartbeats 4000000 in
set_option maxRecDepth 100000 in
theorem mx2_number_2 (l : Launch) (g : XG) (a0 : Option Nat) (a1 a2 : Int) : XMetX l g RX6 yX2_number_2 cX2_number_2 4 (Option.some Jvm.ClassFile.FieldType.int) (6) [rv g a0, .int (iI a1), .int (iI a2)] (x2_number_2 a0 a1 a2) rvI := by
  refine gy_start (by decide +kernel) (by have e := lg_sl_len [rv g a0, .int (iI a1), .int (iI a2)]; simp only [List.map_cons, List.map_nil, List.sum_cons, List.sum_nil, rv_cat, cat_int, cat_long] at e; omega) (fun X Q σ0 hl C E hQ hR hr hX => ?_)
  subst hl
  rw [show lv_args 0 [rv g a0, .int (iI a1), .int (iI a2)] = [(0, rv g a0), (1, .int (iI a1)), (2, .int (iI a2))] from by simp [lv_args, rv_cat, cat_int, cat_long]]
  show GJ X 4 (xWo g σ0 (cx_s X).heap) Q (x2_number_2 a0 a1 a2) 0 [(0, rv g a0), (1, .int (iI a1)), (2, .int (iI a2))] []
  have J30 : ∀ (a0 : Option Nat), GJ X 4 (xWo g σ0 (cx_s X).heap) Q (x2_number_2_j30 a0) 30 [(0, rv g a0)] [] := by
    intro a0
    unfold x2_number_2_j30
    refine gx_aload_n C dX2_number_2_30 0 rfl ?_
    refine gj_iconst C dX2_number_2_31 ?_
    refine gx_callVR (t0 := 2) (As := [.int (iI 4)]) (rest := []) C E rfl dX2_number_2_32 (mx2_wrong (cx_l X) g a0 4) (lw_V q602 q604 qs4 q126 q605) hyx_X2_wrong rfl hR (Nat.le_of_ble_eq_true rfl) (by decide) rfl rfl (Nat.zero_le _) (fun v32 => ?_)
    exact gy_athrow C E hX hQ dX2_number_2_35
  unfold x2_number_2
  refine gx_aload_n C dX2_number_2_0 0 rfl ?_
  refine gx_gI (O := "BorrowedLives$Reader") (nm := "kind") (ds := "I") (fin := false) C E dX2_number_2_1 (by decide +kernel) (Or.inl q191) (fun _ h => h) (fun v1 => ?_)
  refine gj_iconst C dX2_number_2_4 ?_
  refine gj_icmp_eq (tgt := 14) (b' := 2) C dX2_number_2_5 (by decide) rfl (by decide) (fun h5 => gj_pos h5 ?_) (fun h5 => gj_neg h5 ?_)
  · refine gx_aload_n C dX2_number_2_14 0 rfl ?_
    refine gx_gI (O := "BorrowedLives$Reader") (nm := "value") (ds := "I") (fin := false) C E dX2_number_2_15 (by decide +kernel) (Or.inl q193) (fun _ h => h) (fun v15 => ?_)
    refine gj_iload_n C dX2_number_2_18 1 rfl ?_
    refine gj_icmp_lt (tgt := 30) C dX2_number_2_19 (by decide) rfl rfl (fun h19 => gj_pos h19 ?_) (fun h19 => gj_neg h19 ?_)
    · exact gj_to [0] (J30 a0) rfl
    · refine gx_aload_n C dX2_number_2_22 0 rfl ?_
      refine gx_gI (O := "BorrowedLives$Reader") (nm := "value") (ds := "I") (fin := false) C E dX2_number_2_23 (by decide +kernel) (Or.inl q193) (fun _ h => h) (fun v23 => ?_)
      refine gj_iload_n C dX2_number_2_26 2 rfl ?_
      refine gj_icmp_le (tgt := 36) C dX2_number_2_27 (by decide) rfl rfl (fun h27 => gj_neg h27 ?_) (fun h27 => gj_pos h27 ?_)
      · refine gx_aload_n C dX2_number_2_36 0 rfl ?_
        refine gx_gI (O := "BorrowedLives$Reader") (nm := "value") (ds := "I") (fin := false) C E dX2_number_2_37 (by decide +kernel) (Or.inl q193) (fun _ h => h) (fun v37 => ?_)
        refine gj_istore_n (L' := [(3, _), (0, _), (1, _), (2, _)]) C dX2_number_2_40 (by decide) rfl ?_
        refine gx_aload_n C dX2_number_2_41 1 rfl ?_
        refine gx_callVV (t0 := 2) (As := []) (rest := []) C E rfl dX2_number_2_42 (mx2_next (cx_l X) g a0) (lw_V q470 q472 qs1 q126 q473) hyx_X2_next rfl hR (Nat.le_of_ble_eq_true rfl) (by decide) rfl rfl (Nat.zero_le _) ?_
        refine gj_iload_n C dX2_number_2_45 0 rfl ?_
        exact gy_iret C hQ hr dX2_number_2_46
      · exact gj_to [0] (J30 a0) rfl
  · refine gx_aload_n C dX2_number_2_8 0 rfl ?_
    refine gj_iconst C dX2_number_2_9 ?_
    refine gx_callVR (t0 := 2) (As := [.int (iI 1)]) (rest := []) C E rfl dX2_number_2_10 (mx2_wrong (cx_l X) g a0 1) (lw_V q602 q604 qs4 q126 q605) hyx_X2_wrong rfl hR (Nat.le_of_ble_eq_true rfl) (by decide) rfl rfl (Nat.zero_le _) (fun v10 => ?_)
    exact gy_athrow C E hX hQ dX2_number_2_13
def x2_number (a0 a1 : Option Nat) (a2 a3 : Int) : XT Hp Int :=
  pbnd (xrecv a0 2) fun _ =>
  xbnd (x2_need a0 a1) fun _ =>
  pbnd (xrecv a0 2) fun _ =>
  xbnd (x2_number_2 a0 a2 a3) fun v8 =>
  xret v8
set_option maxHeartbeats 4000000 in
set_option maxRecDepth 100000 in
theorem mx2_number (l : Launch) (g : XG) (a0 a1 : Option Nat) (a2 a3 : Int) : XMetX l g RX6 yX2_number cX2_number 4 (Option.some Jvm.ClassFile.FieldType.int) (7) [rv g a0, rv g a1, .int (iI a2), .int (iI a3)] (x2_number a0 a1 a2 a3) rvI := by
  refine gy_start (by decide +kernel) (by have e := lg_sl_len [rv g a0, rv g a1, .int (iI a2), .int (iI a3)]; simp only [List.map_cons, List.map_nil, List.sum_cons, List.sum_nil, rv_cat, cat_int, cat_long] at e; omega) (fun X Q σ0 hl C E hQ hR hr hX => ?_)
  subst hl
  rw [show lv_args 0 [rv g a0, rv g a1, .int (iI a2), .int (iI a3)] = [(0, rv g a0), (1, rv g a1), (2, .int (iI a2)), (3, .int (iI a3))] from by simp [lv_args, rv_cat, cat_int, cat_long]]
  show GJ X 4 (xWo g σ0 (cx_s X).heap) Q (x2_number a0 a1 a2 a3) 0 [(0, rv g a0), (1, rv g a1), (2, .int (iI a2)), (3, .int (iI a3))] []
  unfold x2_number
  refine gx_aload_n C dX2_number_0 0 rfl ?_
  refine gx_aload_n C dX2_number_1 1 rfl ?_
  refine gy_callVV (t0 := 2) (As := [rv g a1]) (rest := []) C E hX hQ rfl dX2_number_2 (mx2_need (cx_l X) g a0 a1) (lw_V q946 q948 qs12 q126 q949) hyx_X2_need rfl hR (Nat.le_of_ble_eq_true rfl) (by decide) rfl rfl (Nat.zero_le _) ?_
  refine gx_aload_n C dX2_number_5 0 rfl ?_
  refine gj_iload_n C dX2_number_6 2 rfl ?_
  refine gj_iload_n C dX2_number_7 3 rfl ?_
  refine gy_callVI (t0 := 2) (As := [.int (iI a2), .int (iI a3)]) (rest := []) C E hX hQ rfl dX2_number_8 (mx2_number_2 (cx_l X) g a0 a2 a3) (lw_V q950 q952 qs13 q126 q953) hyx_X2_number_2 rfl hR (Nat.le_of_ble_eq_true rfl) (by decide) rfl rfl (Nat.zero_le _) (fun v8 => ?_)
  exact gy_iret C hQ hr dX2_number_11
def j16_copyOf_3_j24 (a0 : Option Nat) (a1 : Int) (s0 : Option Nat) : PT Hp (Option Nat) :=
  pbnd (xlen a0) fun v30 =>
  pbnd (xcopyR 44 a0 0 s0 0 (zmin v30 a1)) fun _ =>
  pret s0
def j16_copyOf_3 (a0 : Option Nat) (a1 : Int) (a2 : Option Nat) : PT Hp (Option Nat) :=
  pbnd (xcmp a2 ((some (CB + 201)))) fun _ =>
  pite (a2 = ((some (CB + 201)))) (
    pbnd (xnewa 44 a1) fun v7 =>
    j16_copyOf_3_j24 a0 a1 v7) (
    pfail)
set_option maxHeartbeats 4000000 in
set_option maxRecDepth 100000 in
theorem mj16_copyOf_3 (l : Launch) (g : XG) (a0 : Option Nat) (a1 : Int) (a2 : Option Nat) : XMet l g yJ16_copyOf_3 cJ16_copyOf_3 4 (Option.some (Jvm.ClassFile.FieldType.array (Jvm.ClassFile.FieldType.object "java/lang/Object"))) (1) [rv g a0, .int (iI a1), rv g a2] (j16_copyOf_3 a0 a1 a2) (rvR g) := by
  refine gx_start (by decide +kernel) (by have e := lg_sl_len [rv g a0, .int (iI a1), rv g a2]; simp only [List.map_cons, List.map_nil, List.sum_cons, List.sum_nil, rv_cat, cat_int, cat_long] at e; omega) (fun X Q σ0 hl C E hQ hR hr hnm => ?_)
  subst hl
  rw [show lv_args 0 [rv g a0, .int (iI a1), rv g a2] = [(0, rv g a0), (1, .int (iI a1)), (2, rv g a2)] from by simp [lv_args, rv_cat, cat_int, cat_long]]
  show GJ X 4 (xWo g σ0 (cx_s X).heap) Q (j16_copyOf_3 a0 a1 a2) 0 [(0, rv g a0), (1, .int (iI a1)), (2, rv g a2)] []
  have J24 : ∀ (a0 : Option Nat) (a1 : Int) (s0 : Option Nat), GJ X 4 (xWo g σ0 (cx_s X).heap) Q (j16_copyOf_3_j24 a0 a1 s0) 24 [(0, rv g a0), (1, .int (iI a1))] [rv g s0] := by
    intro a0 a1 s0
    unfold j16_copyOf_3_j24
    refine gx_astore_n (L' := [(3, _), (0, _), (1, _)]) C dJ16_copyOf_3_24 (by decide) rfl ?_
    refine gx_aload_n C dJ16_copyOf_3_25 1 rfl ?_
    refine gj_iconst C dJ16_copyOf_3_26 ?_
    refine gx_aload_n C dJ16_copyOf_3_27 0 rfl ?_
    refine gj_iconst C dJ16_copyOf_3_28 ?_
    refine gx_aload_n C dJ16_copyOf_3_29 1 rfl ?_
    refine gx_len C E dJ16_copyOf_3_30 (fun v30 => ?_)
    refine gj_iload_n C dJ16_copyOf_3_31 2 rfl ?_
    refine gx_min C E dJ16_copyOf_3_32 q757 q517 q137 q518 hR (Nat.le_of_ble_eq_true rfl) (by simp only [List.map_cons, List.map_nil, List.sum_cons, List.sum_nil, rv_cat, cat_int, cat_long]; decide) ?_
    refine gx_copyR C E dJ16_copyOf_3_35 q758 hR (Nat.le_of_ble_eq_true rfl) (Nat.zero_le _) ?_
    refine gx_aload_n C dJ16_copyOf_3_38 0 rfl ?_
    exact gx_aret C hQ hr (Or.inr ⟨_, rfl⟩) dJ16_copyOf_3_39
  unfold j16_copyOf_3
  refine gx_aload_n C dJ16_copyOf_3_0 2 rfl ?_
  refine gx_ldcM C E dJ16_copyOf_3_1 q1016 ?_
  refine gx_acmp_ne (tgt := 13) C dJ16_copyOf_3_3 (by decide) (fun h3 => gj_neg h3 ?_) (fun h3 => gj_pos h3 ?_)
  · refine gx_aload_n C dJ16_copyOf_3_13 2 rfl ?_
    exact gj_fail
  · refine gj_iload_n C dJ16_copyOf_3_6 1 rfl ?_
    refine gx_anew (t0 := 4) C E dJ16_copyOf_3_7 (by decide) (by decide) rfl q1017 E.1.2.2.1 (fun v7 => ?_)
    refine gj_goto (tgt := 24) C dJ16_copyOf_3_10 (by decide) ?_
    exact gj_to [0, 1] (J24 a0 a1 v7) rfl
def j16_copyOf_2 (a0 : Option Nat) (a1 : Int) : PT Hp (Option Nat) :=
  pbnd (xrecv a0 44) fun _ =>
  pbnd (j16_copyOf_3 a0 a1 (some (CB + 201))) fun v6 =>
  pret v6
set_option maxHeartbeats 4000000 in
set_option maxRecDepth 100000 in
theorem mj16_copyOf_2 (l : Launch) (g : XG) (a0 : Option Nat) (a1 : Int) : XMet l g yJ16_copyOf_2 cJ16_copyOf_2 2 (Option.some (Jvm.ClassFile.FieldType.array (Jvm.ClassFile.FieldType.object "java/lang/Object"))) (2) [rv g a0, .int (iI a1)] (j16_copyOf_2 a0 a1) (rvR g) := by
  refine gx_start (by decide +kernel) (by have e := lg_sl_len [rv g a0, .int (iI a1)]; simp only [List.map_cons, List.map_nil, List.sum_cons, List.sum_nil, rv_cat, cat_int, cat_long] at e; omega) (fun X Q σ0 hl C E hQ hR hr hnm => ?_)
  subst hl
  rw [show lv_args 0 [rv g a0, .int (iI a1)] = [(0, rv g a0), (1, .int (iI a1))] from by simp [lv_args, rv_cat, cat_int, cat_long]]
  show GJ X 2 (xWo g σ0 (cx_s X).heap) Q (j16_copyOf_2 a0 a1) 0 [(0, rv g a0), (1, .int (iI a1))] []
  unfold j16_copyOf_2
  refine gx_aload_n C dJ16_copyOf_2_0 0 rfl ?_
  refine gj_iload_n C dJ16_copyOf_2_1 1 rfl ?_
  refine gx_aload_n C dJ16_copyOf_2_2 0 rfl ?_
  refine gx_getC C E dJ16_copyOf_2_3 q979 hR (Nat.le_of_ble_eq_true rfl) (by simp only [List.map_cons, List.map_nil, List.sum_cons, List.sum_nil, rv_cat, cat_int, cat_long]; decide) ?_
  refine gx_callSR (As := [rv g a0, .int (iI a1), rv g ((some (CB + 201)))]) (rest := []) C E dJ16_copyOf_2_6 (mj16_copyOf_3 (cx_l X) g a0 a1 (some (CB + 201))) (lw_S q1013 q1014 q147 q1015) hyx_J16_copyOf_3 hR (Nat.le_of_ble_eq_true rfl) (by decide) rfl rfl (Nat.zero_le _) (fun v6 => ?_)
  exact gx_aret C hQ hr (Or.inr ⟨_, rfl⟩) dJ16_copyOf_2_9
def j2_grow_2_j20 (a0 : Option Nat) (a1 a2 : Int) : PT Hp (Option Nat) :=
  pbnd (j15_newLength a2 (a1 - a2) (zshr a2 1)) fun v27 =>
  pbnd (xgR a0 26 1) fun v33 =>
  pbnd (j16_copyOf_2 v33 v27) fun v37 =>
  pbnd (xpR a0 26 1 v37) fun _ =>
  pret v37
def j2_grow_2 (a0 : Option Nat) (a1 : Int) : PT Hp (Option Nat) :=
  pbnd (xgR a0 26 1) fun v1 =>
  pbnd (xlen v1) fun v4 =>
  pite (0 < w32 v4) (
    j2_grow_2_j20 a0 a1 v4) (
    pbnd (xgR a0 26 1) fun v11 =>
    pfail)
set_option maxHeartbeats 4000000 in
set_option maxRecDepth 100000 in
theorem mj2_grow_2 (l : Launch) (g : XG) (a0 : Option Nat) (a1 : Int) : XMet l g yJ2_grow_2 cJ2_grow_2 4 (Option.some (Jvm.ClassFile.FieldType.array (Jvm.ClassFile.FieldType.object "java/lang/Object"))) (3) [rv g a0, .int (iI a1)] (j2_grow_2 a0 a1) (rvR g) := by
  refine gx_start (by decide +kernel) (by have e := lg_sl_len [rv g a0, .int (iI a1)]; simp only [List.map_cons, List.map_nil, List.sum_cons, List.sum_nil, rv_cat, cat_int, cat_long] at e; omega) (fun X Q σ0 hl C E hQ hR hr hnm => ?_)
  subst hl
  rw [show lv_args 0 [rv g a0, .int (iI a1)] = [(0, rv g a0), (1, .int (iI a1))] from by simp [lv_args, rv_cat, cat_int, cat_long]]
  show GJ X 4 (xWo g σ0 (cx_s X).heap) Q (j2_grow_2 a0 a1) 0 [(0, rv g a0), (1, .int (iI a1))] []
  have J20 : ∀ (a0 : Option Nat) (a1 a2 : Int), GJ X 4 (xWo g σ0 (cx_s X).heap) Q (j2_grow_2_j20 a0 a1 a2) 20 [(0, rv g a0), (1, .int (iI a1)), (2, .int (iI a2))] [] := by
    intro a0 a1 a2
    unfold j2_grow_2_j20
    refine gj_iload_n C dJ2_grow_2_20 2 rfl ?_
    refine gj_iload_n C dJ2_grow_2_21 1 rfl ?_
    refine gj_iload_n C dJ2_grow_2_22 2 rfl ?_
    refine gj_isub C dJ2_grow_2_23 ?_
    refine gj_iload_n C dJ2_grow_2_24 2 rfl ?_
    refine gj_iconst C dJ2_grow_2_25 ?_
    refine gj_ishr C dJ2_grow_2_26 ?_
    refine gx_callSI (As := [.int (iI a2), .int (iI ((a1 - a2))), .int (iI (zshr a2 1))]) (rest := []) C E dJ2_grow_2_27 (mj15_newLength (cx_l X) g a2 (a1 - a2) (zshr a2 1)) (lw_S q975 q739 q146 q740) hyx_J15_newLength hR (Nat.le_of_ble_eq_true rfl) (by decide) rfl rfl (Nat.zero_le _) (fun v27 => ?_)
    refine gj_istore_n (L' := [(3, _), (0, _), (1, _), (2, _)]) C dJ2_grow_2_30 (by decide) rfl ?_
    refine gx_aload_n C dJ2_grow_2_31 1 rfl ?_
    refine gx_aload_n C dJ2_grow_2_32 1 rfl ?_
    refine gx_gR (O := "java/util/ArrayList") (nm := "elementData") (ds := "[Ljava/lang/Object;") (fin := false) C E dJ2_grow_2_33 (by decide +kernel) (Or.inl q239) (fun _ h => h) (fun v33 => ?_)
    refine gj_iload_n C dJ2_grow_2_36 0 rfl ?_
    refine gx_callSR (As := [rv g v33, .int (iI v27)]) (rest := [rv g a0]) C E dJ2_grow_2_37 (mj16_copyOf_2 (cx_l X) g v33 v27) (lw_S q976 q977 q147 q978) hyx_J16_copyOf_2 hR (Nat.le_of_ble_eq_true rfl) (by decide) rfl rfl (by simp only [List.map_cons, List.map_nil, List.sum_cons, List.sum_nil, rv_cat, cat_int, cat_long]; decide) (fun v37 => ?_)
    refine gj_dup_x1 C dJ2_grow_2_40 (rv_cat _ _) (rv_cat _ _) ?_
    refine gx_pR (O := "java/util/ArrayList") (nm := "elementData") (ds := "[Ljava/lang/Object;") (fin := false) (ty := (.array (.object "java/lang/Object"))) C E dJ2_grow_2_41 (by decide +kernel) (Or.inl q239) (fun _ h => h) (fun h => by cases h) (by decide +kernel) (by decide) ?_
    exact gx_aret C hQ hr (Or.inr ⟨_, rfl⟩) dJ2_grow_2_44
  unfold j2_grow_2
  refine gx_aload_n C dJ2_grow_2_0 0 rfl ?_
  refine gx_gR (O := "java/util/ArrayList") (nm := "elementData") (ds := "[Ljava/lang/Object;") (fin := false) C E dJ2_grow_2_1 (by decide +kernel) (Or.inl q239) (fun _ h => h) (fun v1 => ?_)
  refine gx_len C E dJ2_grow_2_4 (fun v4 => ?_)
  refine gj_istore_n (L' := [(2, _), (0, _), (1, _)]) C dJ2_grow_2_5 (by decide) rfl ?_
  refine gj_iload_n C dJ2_grow_2_6 0 rfl ?_
  refine gj_if_gt (tgt := 20) C dJ2_grow_2_7 (by decide) (fun h7 => gj_pos h7 ?_) (fun h7 => gj_neg h7 ?_)
  · exact gj_to [1, 2, 0] (J20 a0 a1 v4) rfl
  · refine gx_aload_n C dJ2_grow_2_10 1 rfl ?_
    refine gx_gR (O := "java/util/ArrayList") (nm := "elementData") (ds := "[Ljava/lang/Object;") (fin := false) C E dJ2_grow_2_11 (by decide +kernel) (Or.inl q239) (fun _ h => h) (fun v11 => ?_)
    exact gj_fail
def j2_grow (a0 : Option Nat) : PT Hp (Option Nat) :=
  pbnd (xgI a0 26 2) fun v2 =>
  pbnd (xrecv a0 26) fun _ =>
  pbnd (j2_grow_2 a0 (v2 + 1)) fun v7 =>
  pret v7
set_option maxHeartbeats 4000000 in
set_option maxRecDepth 100000 in
theorem mj2_grow (l : Launch) (g : XG) (a0 : Option Nat) : XMet l g yJ2_grow cJ2_grow 1 (Option.some (Jvm.ClassFile.FieldType.array (Jvm.ClassFile.FieldType.object "java/lang/Object"))) (4) [rv g a0] (j2_grow a0) (rvR g) := by
  refine gx_start (by decide +kernel) (by have e := lg_sl_len [rv g a0]; simp only [List.map_cons, List.map_nil, List.sum_cons, List.sum_nil, rv_cat, cat_int, cat_long] at e; omega) (fun X Q σ0 hl C E hQ hR hr hnm => ?_)
  subst hl
  rw [show lv_args 0 [rv g a0] = [(0, rv g a0)] from by simp [lv_args, rv_cat, cat_int, cat_long]]
  show GJ X 1 (xWo g σ0 (cx_s X).heap) Q (j2_grow a0) 0 [(0, rv g a0)] []
  unfold j2_grow
  refine gx_aload_n C dJ2_grow_0 0 rfl ?_
  refine gx_aload_n C dJ2_grow_1 0 rfl ?_
  refine gx_gI (O := "java/util/ArrayList") (nm := "size") (ds := "I") (fin := false) C E dJ2_grow_2 (by decide +kernel) (Or.inl q240) (fun _ h => h) (fun v2 => ?_)
  refine gj_iconst C dJ2_grow_5 ?_
  refine gj_iadd C dJ2_grow_6 ?_
  refine gx_callVR (t0 := 26) (As := [.int (iI ((v2 + 1)))]) (rest := []) C E rfl dJ2_grow_7 (mj2_grow_2 (cx_l X) g a0 (v2 + 1)) (lw_V q969 q971 qs16 q130 q972) hyx_J2_grow_2 rfl hR (Nat.le_of_ble_eq_true rfl) (by decide) rfl rfl (Nat.zero_le _) (fun v7 => ?_)
  exact gx_aret C hQ hr (Or.inr ⟨_, rfl⟩) dJ2_grow_10
def j2_add_2_j11 (a0 a1 a2 : Option Nat) (a3 : Int) : PT Hp Unit :=
  pbnd (xstR a2 44 a3 a1) fun _ =>
  pbnd (xpI a0 26 2 (w32 (a3 + 1))) fun _ =>
  pret ()
def j2_add_2 (a0 a1 a2 : Option Nat) (a3 : Int) : PT Hp Unit :=
  pbnd (xlen a2) fun v2 =>
  pite (w32 a3 = w32 v2) (
    pbnd (xrecv a0 26) fun _ =>
    pbnd (j2_grow a0) fun v7 =>
    j2_add_2_j11 a0 a1 v7 a3) (
    j2_add_2_j11 a0 a1 a2 a3)
set_option maxHeartbeats 4000000 in
set_option maxRecDepth 100000 in
theorem mj2_add_2 (l : Launch) (g : XG) (a0 a1 a2 : Option Nat) (a3 : Int) : XMet l g yJ2_add_2 cJ2_add_2 4 (Option.none : Option Jvm.ClassFile.FieldType) (5) [rv g a0, rv g a1, rv g a2, .int (iI a3)] (j2_add_2 a0 a1 a2 a3) rvV := by
  refine gx_start (by decide +kernel) (by have e := lg_sl_len [rv g a0, rv g a1, rv g a2, .int (iI a3)]; simp only [List.map_cons, List.map_nil, List.sum_cons, List.sum_nil, rv_cat, cat_int, cat_long] at e; omega) (fun X Q σ0 hl C E hQ hR hr hnm => ?_)
  subst hl
  rw [show lv_args 0 [rv g a0, rv g a1, rv g a2, .int (iI a3)] = [(0, rv g a0), (1, rv g a1), (2, rv g a2), (3, .int (iI a3))] from by simp [lv_args, rv_cat, cat_int, cat_long]]
  show GJ X 4 (xWo g σ0 (cx_s X).heap) Q (j2_add_2 a0 a1 a2 a3) 0 [(0, rv g a0), (1, rv g a1), (2, rv g a2), (3, .int (iI a3))] []
  have J11 : ∀ (a0 a1 a2 : Option Nat) (a3 : Int), GJ X 4 (xWo g σ0 (cx_s X).heap) Q (j2_add_2_j11 a0 a1 a2 a3) 11 [(0, rv g a0), (1, rv g a1), (2, rv g a2), (3, .int (iI a3))] [] := by
    intro a0 a1 a2 a3
    unfold j2_add_2_j11
    refine gx_aload_n C dJ2_add_2_11 2 rfl ?_
    refine gj_iload_n C dJ2_add_2_12 3 rfl ?_
    refine gx_aload_n C dJ2_add_2_13 1 rfl ?_
    refine gx_aast (t0 := 4) C E dJ2_add_2_14 (by decide) (by decide) rfl xcast44 xelt44 ?_
    refine gx_aload_n C dJ2_add_2_15 0 rfl ?_
    refine gj_iload_n C dJ2_add_2_16 3 rfl ?_
    refine gj_iconst C dJ2_add_2_17 ?_
    refine gj_iadd C dJ2_add_2_18 ?_
    refine gj_nrmI ?_
    refine gx_pI (O := "java/util/ArrayList") (nm := "size") (ds := "I") (fin := false) (ty := .int) C E dJ2_add_2_19 (by decide +kernel) (Or.inl q240) (fun _ h => h) (fun h => by cases h) (by decide +kernel) (inty_int _) ?_
    exact gx_vret C hQ hr dJ2_add_2_22
  unfold j2_add_2
  refine gj_iload_n C dJ2_add_2_0 3 rfl ?_
  refine gx_aload_n C dJ2_add_2_1 2 rfl ?_
  refine gx_len C E dJ2_add_2_2 (fun v2 => ?_)
  refine gj_icmp_ne (tgt := 11) C dJ2_add_2_3 (by decide) rfl rfl (fun h3 => gj_neg h3 ?_) (fun h3 => gj_pos h3 ?_)
  · exact gj_to [0, 1, 2, 3] (J11 a0 a1 a2 a3) rfl
  · refine gx_aload_n C dJ2_add_2_6 0 rfl ?_
    refine gx_callVR (t0 := 26) (As := []) (rest := []) C E rfl dJ2_add_2_7 (mj2_grow (cx_l X) g a0) (lw_V q965 q967 qs15 q130 q968) hyx_J2_grow rfl hR (Nat.le_of_ble_eq_true rfl) (by decide) rfl rfl (Nat.zero_le _) (fun v7 => ?_)
    refine gx_astore_n (L' := [(2, rv g v7), (0, rv g a0), (1, rv g a1), (3, .int (iI a3))]) C dJ2_add_2_10 (by decide) (by simp [List.filter, rv_cat, cat_int, cat_long, fin4_3]) ?_
    exact gj_to [1, 2, 0, 3] (J11 a0 a1 v7 a3) rfl
def j2_add (a0 a1 : Option Nat) : PT Hp Int :=
  pbnd (xgI a0 26 0) fun v2 =>
  pbnd (xpI a0 26 0 (w32 (v2 + 1))) fun _ =>
  pbnd (xgR a0 26 1) fun v13 =>
  pbnd (xgI a0 26 2) fun v17 =>
  pbnd (xrecv a0 26) fun _ =>
  pbnd (j2_add_2 a0 a1 v13 v17) fun _ =>
  pbnd (pzo 1) fun _ => pret 1
set_option maxHeartbeats 4000000 in
set_option maxRecDepth 100000 in
theorem mj2_add (l : Launch) (g : XG) (a0 a1 : Option Nat) : XMet l g yJ2_add cJ2_add 2 (Option.some Jvm.ClassFile.FieldType.boolean) (6) [rv g a0, rv g a1] (j2_add a0 a1) rvI := by
  refine gx_start (by decide +kernel) (by have e := lg_sl_len [rv g a0, rv g a1]; simp only [List.map_cons, List.map_nil, List.sum_cons, List.sum_nil, rv_cat, cat_int, cat_long] at e; omega) (fun X Q σ0 hl C E hQ hR hr hnm => ?_)
  subst hl
  rw [show lv_args 0 [rv g a0, rv g a1] = [(0, rv g a0), (1, rv g a1)] from by simp [lv_args, rv_cat, cat_int, cat_long]]
  show GJ X 2 (xWo g σ0 (cx_s X).heap) Q (j2_add a0 a1) 0 [(0, rv g a0), (1, rv g a1)] []
  unfold j2_add
  refine gx_aload_n C dJ2_add_0 0 rfl ?_
  refine gx_dup C dJ2_add_1 ?_
  refine gx_gI (O := "java/util/AbstractList") (nm := "modCount") (ds := "I") (fin := false) C E dJ2_add_2 (by decide +kernel) (Or.inl q242) (fun x h => u_same (C.2.2.2.2.2 _ q243) x h) (fun v2 => ?_)
  refine gj_iconst C dJ2_add_5 ?_
  refine gj_iadd C dJ2_add_6 ?_
  refine gj_nrmI ?_
  refine gx_pI (O := "java/util/AbstractList") (nm := "modCount") (ds := "I") (fin := false) (ty := .int) C E dJ2_add_7 (by decide +kernel) (Or.inl q242) (fun x h => u_same (C.2.2.2.2.2 _ q243) x h) (fun h => by cases h) (by decide +kernel) (inty_int _) ?_
  refine gx_aload_n C dJ2_add_10 0 rfl ?_
  refine gx_aload_n C dJ2_add_11 1 rfl ?_
  refine gx_aload_n C dJ2_add_12 0 rfl ?_
  refine gx_gR (O := "java/util/ArrayList") (nm := "elementData") (ds := "[Ljava/lang/Object;") (fin := false) C E dJ2_add_13 (by decide +kernel) (Or.inl q239) (fun _ h => h) (fun v13 => ?_)
  refine gx_aload_n C dJ2_add_16 0 rfl ?_
  refine gx_gI (O := "java/util/ArrayList") (nm := "size") (ds := "I") (fin := false) C E dJ2_add_17 (by decide +kernel) (Or.inl q240) (fun _ h => h) (fun v17 => ?_)
  refine gx_callVV (t0 := 26) (As := [rv g a1, rv g v13, .int (iI v17)]) (rest := []) C E rfl dJ2_add_20 (mj2_add_2 (cx_l X) g a0 a1 v13 v17) (lw_V q961 q963 qs14 q130 q964) hyx_J2_add_2 rfl hR (Nat.le_of_ble_eq_true rfl) (by decide) rfl rfl (Nat.zero_le _) ?_
  refine gj_iconst C dJ2_add_23 ?_
  exact gx_zret C hQ hr dJ2_add_24
def x2_comes_j88 (a0 s0 : Option Nat) : XT Hp Unit :=
  pbnd (xrecv a0 2) fun _ =>
  xbnd (x2_number a0 (some (CB + 4)) 0 9) fun v96 =>
  pbnd (xpIs s0 [6, 7, 8, 9] 1 v96) fun _ =>
  pbnd (xrecv a0 2) fun _ =>
  xbnd (x2_number a0 (some (CB + 5)) 0 999) fun v110 =>
  pbnd (xpIs s0 [6, 7, 8, 9] 2 v110) fun _ =>
  pbnd (xrecv a0 2) fun _ =>
  xbnd (x2_number a0 (some (CB + 6)) 0 999) fun v124 =>
  pbnd (xpIs s0 [6, 7, 8, 9] 3 v124) fun _ =>
  pbnd (xrecv a0 2) fun _ =>
  xbnd (x2_number a0 (some (CB + 7)) 0 9) fun v137 =>
  pbnd (xpIs s0 [6, 7, 8, 9] 4 v137) fun _ =>
  pbnd (xgR a0 2 7) fun v144 =>
  pbnd (xgR v144 3 0) fun v147 =>
  pbnd (xrecv v147 26) fun _ =>
  pbnd (j2_add v147 s0) fun v151 =>
  xret ()
def x2_comes (a0 : Option Nat) : XT Hp Unit :=
  pbnd (xrecv a0 2) fun _ =>
  xbnd (x2_name a0) fun v1 =>
  pbnd (xgR a0 2 7) fun v6 =>
  pbnd (xrecv v6 3) fun _ =>
  pbnd (x3_person v6 v1) fun v10 =>
  pite (w32 v10 < 0) (
    pbnd (xrecv a0 2) fun _ =>
    pbnd (x2_next a0) fun _ =>
    pbnd (xrecv a0 2) fun _ =>
    xbnd (x2_one a0 (some (CB + 3))) fun v29 =>
    pite (w32 v29 = 0) (
      pbnd (xnew 6) fun v37 =>
      pbnd (xnn v37) fun _ =>
      pbnd (x7_init v37 v1) fun _ =>
      x2_comes_j88 a0 v37) (
      pite (w32 v29 = 1) (
        pbnd (xnew 7) fun v53 =>
        pbnd (xnn v53) fun _ =>
        pbnd (x8_init v53 v1) fun _ =>
        x2_comes_j88 a0 v53) (
        pite (w32 v29 = 2) (
          pbnd (xnew 8) fun v69 =>
          pbnd (xnn v69) fun _ =>
          pbnd (x9_init v69 v1) fun _ =>
          x2_comes_j88 a0 v69) (
          pbnd (xnew 9) fun v80 =>
          pbnd (xnn v80) fun _ =>
          pbnd (x10_init v80 v1) fun _ =>
          x2_comes_j88 a0 v80)))) (
    pbnd (xrecv a0 2) fun _ =>
    pbnd (x2_wrong a0 3) fun v18 =>
    xthrow v18)
set_option maxHeartbeats 4000000 in
set_option maxRecDepth 100000 in
theorem mx2_comes (l : Launch) (g : XG) (a0 : Option Nat) : XMetX l g RX6 yX2_comes cX2_comes 4 (Option.none : Option Jvm.ClassFile.FieldType) (8) [rv g a0] (x2_comes a0) rvV := by
  refine gy_start (by decide +kernel) (by have e := lg_sl_len [rv g a0]; simp only [List.map_cons, List.map_nil, List.sum_cons, List.sum_nil, rv_cat, cat_int, cat_long] at e; omega) (fun X Q σ0 hl C E hQ hR hr hX => ?_)
  subst hl
  rw [show lv_args 0 [rv g a0] = [(0, rv g a0)] from by simp [lv_args, rv_cat, cat_int, cat_long]]
  show GJ X 4 (xWo g σ0 (cx_s X).heap) Q (x2_comes a0) 0 [(0, rv g a0)] []
  have J88 : ∀ (a0 s0 : Option Nat), GJ X 4 (xWo g σ0 (cx_s X).heap) Q (x2_comes_j88 a0 s0) 88 [(0, rv g a0)] [rv g s0] := by
    intro a0 s0
    unfold x2_comes_j88
    refine gx_astore_n (L' := [(3, _), (0, _)]) C dX2_comes_88 (by decide) rfl ?_
    refine gx_aload_n C dX2_comes_89 0 rfl ?_
    refine gx_aload_n C dX2_comes_90 1 rfl ?_
    refine gx_ldcS C E 4 (by decide) rfl dX2_comes_91 ?_
    refine gj_iconst C dX2_comes_93 ?_
    refine gj_bipush C dX2_comes_94 rfl ?_
    refine gy_callVI (t0 := 2) (As := [rv g ((some (CB + 4))), .int (iI 0), .int (iI 9)]) (rest := [rv g s0]) C E hX hQ rfl dX2_comes_96 (mx2_number (cx_l X) g a0 (some (CB + 4)) 0 9) (lw_V q942 q944 qs11 q126 q945) hyx_X2_number rfl hR (Nat.le_of_ble_eq_true rfl) (by decide) rfl rfl (by simp only [List.map_cons, List.map_nil, List.sum_cons, List.sum_nil, rv_cat, cat_int, cat_long]; decide) (fun v96 => ?_)
    refine gx_pIs (O := "BorrowedLives$Person") (nm := "skill") (ds := "I") (fin := false) (ty := .int) C E dX2_comes_99 (by decide +kernel) (Or.inl q880) (fun _ h => h) (fun h => by cases h) (by decide +kernel) (inty_int _) ?_
    refine gx_aload_n C dX2_comes_102 0 rfl ?_
    refine gx_aload_n C dX2_comes_103 1 rfl ?_
    refine gx_ldcS C E 5 (by decide) rfl dX2_comes_104 ?_
    refine gj_iconst C dX2_comes_106 ?_
    refine gj_sipush C dX2_comes_107 rfl ?_
    refine gy_callVI (t0 := 2) (As := [rv g ((some (CB + 5))), .int (iI 0), .int (iI 999)]) (rest := [rv g s0]) C E hX hQ rfl dX2_comes_110 (mx2_number (cx_l X) g a0 (some (CB + 5)) 0 999) (lw_V q942 q944 qs11 q126 q945) hyx_X2_number rfl hR (Nat.le_of_ble_eq_true rfl) (by decide) rfl rfl (by simp only [List.map_cons, List.map_nil, List.sum_cons, List.sum_nil, rv_cat, cat_int, cat_long]; decide) (fun v110 => ?_)
    refine gx_pIs (O := "BorrowedLives$Person") (nm := "purse") (ds := "I") (fin := false) (ty := .int) C E dX2_comes_113 (by decide +kernel) (Or.inl q882) (fun _ h => h) (fun h => by cases h) (by decide +kernel) (inty_int _) ?_
    refine gx_aload_n C dX2_comes_116 0 rfl ?_
    refine gx_aload_n C dX2_comes_117 1 rfl ?_
    refine gx_ldcS C E 6 (by decide) rfl dX2_comes_118 ?_
    refine gj_iconst C dX2_comes_120 ?_
    refine gj_sipush C dX2_comes_121 rfl ?_
    refine gy_callVI (t0 := 2) (As := [rv g ((some (CB + 6))), .int (iI 0), .int (iI 999)]) (rest := [rv g s0]) C E hX hQ rfl dX2_comes_124 (mx2_number (cx_l X) g a0 (some (CB + 6)) 0 999) (lw_V q942 q944 qs11 q126 q945) hyx_X2_number rfl hR (Nat.le_of_ble_eq_true rfl) (by decide) rfl rfl (by simp only [List.map_cons, List.map_nil, List.sum_cons, List.sum_nil, rv_cat, cat_int, cat_long]; decide) (fun v124 => ?_)
    refine gx_pIs (O := "BorrowedLives$Person") (nm := "debt") (ds := "I") (fin := false) (ty := .int) C E dX2_comes_127 (by decide +kernel) (Or.inl q884) (fun _ h => h) (fun h => by cases h) (by decide +kernel) (inty_int _) ?_
    refine gx_aload_n C dX2_comes_130 0 rfl ?_
    refine gx_aload_n C dX2_comes_131 1 rfl ?_
    refine gx_ldcS C E 7 (by decide) rfl dX2_comes_132 ?_
    refine gj_iconst C dX2_comes_134 ?_
    refine gj_bipush C dX2_comes_135 rfl ?_
    refine gy_callVI (t0 := 2) (As := [rv g ((some (CB + 7))), .int (iI 0), .int (iI 9)]) (rest := [rv g s0]) C E hX hQ rfl dX2_comes_137 (mx2_number (cx_l X) g a0 (some (CB + 7)) 0 9) (lw_V q942 q944 qs11 q126 q945) hyx_X2_number rfl hR (Nat.le_of_ble_eq_true rfl) (by decide) rfl rfl (by simp only [List.map_cons, List.map_nil, List.sum_cons, List.sum_nil, rv_cat, cat_int, cat_long]; decide) (fun v137 => ?_)
    refine gx_pIs (O := "BorrowedLives$Person") (nm := "home") (ds := "I") (fin := false) (ty := .int) C E dX2_comes_140 (by decide +kernel) (Or.inl q886) (fun _ h => h) (fun h => by cases h) (by decide +kernel) (inty_int _) ?_
    refine gx_aload_n C dX2_comes_143 1 rfl ?_
    refine gx_gR (O := "BorrowedLives$Reader") (nm := "town") (ds := "LBorrowedLives$Town;") (fin := false) C E dX2_comes_144 (by decide +kernel) (Or.inl q195) (fun _ h => h) (fun v144 => ?_)
    refine gx_gR (O := "BorrowedLives$Town") (nm := "people") (ds := "Ljava/util/ArrayList;") (fin := true) C E dX2_comes_147 (by decide +kernel) (Or.inr ⟨_, q254⟩) (fun _ h => h) (fun v147 => ?_)
    refine gx_aload_n C dX2_comes_150 0 rfl ?_
    refine gx_callVI (t0 := 26) (As := [rv g s0]) (rest := []) C E rfl dX2_comes_151 (mj2_add (cx_l X) g v147 s0) (lw_V q957 q958 q959 q130 q960) hyx_J2_add rfl hR (Nat.le_of_ble_eq_true rfl) (by decide) rfl rfl (Nat.zero_le _) (fun v151 => ?_)
    refine gj_pop C dX2_comes_154 rfl ?_
    exact gy_vret C hQ hr dX2_comes_155
  unfold x2_comes
  refine gx_aload_n C dX2_comes_0 0 rfl ?_
  refine gy_callVR (t0 := 2) (As := []) (rest := []) C E hX hQ rfl dX2_comes_1 (mx2_name (cx_l X) g a0) (lw_V q688 q690 qs9 q126 q691) hyx_X2_name rfl hR (Nat.le_of_ble_eq_true rfl) (by decide) rfl rfl (Nat.zero_le _) (fun v1 => ?_)
  refine gx_astore_n (L' := [(1, rv g v1), (0, rv g a0)]) C dX2_comes_4 (by decide) (by simp [List.filter, rv_cat, cat_int, cat_long, fin4_3]) ?_
  refine gx_aload_n C dX2_comes_5 1 rfl ?_
  refine gx_gR (O := "BorrowedLives$Reader") (nm := "town") (ds := "LBorrowedLives$Town;") (fin := false) C E dX2_comes_6 (by decide +kernel) (Or.inl q195) (fun _ h => h) (fun v6 => ?_)
  refine gx_aload_n C dX2_comes_9 0 rfl ?_
  refine gx_callVI (t0 := 3) (As := [rv g v1]) (rest := []) C E rfl dX2_comes_10 (mx3_person (cx_l X) g v6 v1) (lw_V q851 q852 q853 q127 q854) hyx_X3_person rfl hR (Nat.le_of_ble_eq_true rfl) (by decide) rfl rfl (Nat.zero_le _) (fun v10 => ?_)
  refine gj_if_lt (tgt := 22) C dX2_comes_13 (by decide) (fun h13 => gj_pos h13 ?_) (fun h13 => gj_neg h13 ?_)
  · refine gx_aload_n C dX2_comes_22 1 rfl ?_
    refine gx_callVV (t0 := 2) (As := []) (rest := []) C E rfl dX2_comes_23 (mx2_next (cx_l X) g a0) (lw_V q470 q472 qs1 q126 q473) hyx_X2_next rfl hR (Nat.le_of_ble_eq_true rfl) (by decide) rfl rfl (Nat.zero_le _) ?_
    refine gx_aload_n C dX2_comes_26 1 rfl ?_
    refine gx_ldcS C E 3 (by decide) rfl dX2_comes_27 ?_
    refine gy_callVI (t0 := 2) (As := [rv g ((some (CB + 3)))]) (rest := []) C E hX hQ rfl dX2_comes_29 (mx2_one (cx_l X) g a0 (some (CB + 3))) (lw_V q867 q869 qs10 q126 q870) hyx_X2_one rfl hR (Nat.le_of_ble_eq_true rfl) (by decide) rfl rfl (Nat.zero_le _) (fun v29 => ?_)
    refine gj_istore_n (L' := [(2, .int (iI v29)), (1, rv g v1), (0, rv g a0)]) C dX2_comes_32 (by decide) (by simp [List.filter, rv_cat, cat_int, cat_long, fin4_3]) ?_
    refine gj_iload_n C dX2_comes_33 0 rfl ?_
    refine gj_if_ne (tgt := 48) C dX2_comes_34 (by decide) (fun h34 => gj_neg h34 ?_) (fun h34 => gj_pos h34 ?_)
    · refine gj_iload_n C dX2_comes_48 0 rfl ?_
      refine gj_iconst C dX2_comes_49 ?_
      refine gj_icmp_ne (tgt := 64) (b' := 1) C dX2_comes_50 (by decide) rfl (by decide) (fun h50 => gj_neg h50 ?_) (fun h50 => gj_pos h50 ?_)
      · refine gj_iload_n C dX2_comes_64 0 rfl ?_
        refine gj_iconst C dX2_comes_65 ?_
        refine gj_icmp_ne (tgt := 80) (b' := 2) C dX2_comes_66 (by decide) rfl (by decide) (fun h66 => gj_neg h66 ?_) (fun h66 => gj_pos h66 ?_)
        · refine gx_new (t0 := 9) C E dX2_comes_80 rfl q928 q929 q152 (fun v80 => ?_)
          refine gx_dup C dX2_comes_83 ?_
          refine gx_aload_n C dX2_comes_84 1 rfl ?_
          refine gx_callIV (As := [rv g v1]) (rest := [rv g v80]) C E dX2_comes_85 (mx10_init (cx_l X) g v80 v1) (lw_meth q932) q152 q930 q931 rfl hyx_X10_init hR (Nat.le_of_ble_eq_true rfl) (by decide) rfl rfl (by simp only [List.map_cons, List.map_nil, List.sum_cons, List.sum_nil, rv_cat, cat_int, cat_long]; decide) ?_
          exact gj_to [2] (J88 a0 v80) rfl
        · refine gx_new (t0 := 8) C E dX2_comes_69 rfl q915 q916 q151 (fun v69 => ?_)
          refine gx_dup C dX2_comes_72 ?_
          refine gx_aload_n C dX2_comes_73 1 rfl ?_
          refine gx_callIV (As := [rv g v1]) (rest := [rv g v69]) C E dX2_comes_74 (mx9_init (cx_l X) g v69 v1) (lw_meth q919) q151 q917 q918 rfl hyx_X9_init hR (Nat.le_of_ble_eq_true rfl) (by decide) rfl rfl (by simp only [List.map_cons, List.map_nil, List.sum_cons, List.sum_nil, rv_cat, cat_int, cat_long]; decide) ?_
          refine gj_goto (tgt := 88) C dX2_comes_77 (by decide) ?_
          exact gj_to [2] (J88 a0 v69) rfl
      · refine gx_new (t0 := 7) C E dX2_comes_53 rfl q902 q903 q150 (fun v53 => ?_)
        refine gx_dup C dX2_comes_56 ?_
        refine gx_aload_n C dX2_comes_57 1 rfl ?_
        refine gx_callIV (As := [rv g v1]) (rest := [rv g v53]) C E dX2_comes_58 (mx8_init (cx_l X) g v53 v1) (lw_meth q906) q150 q904 q905 rfl hyx_X8_init hR (Nat.le_of_ble_eq_true rfl) (by decide) rfl rfl (by simp only [List.map_cons, List.map_nil, List.sum_cons, List.sum_nil, rv_cat, cat_int, cat_long]; decide) ?_
        refine gj_goto (tgt := 88) C dX2_comes_61 (by decide) ?_
        exact gj_to [2] (J88 a0 v53) rfl
    · refine gx_new (t0 := 6) C E dX2_comes_37 rfl q871 q872 q149 (fun v37 => ?_)
      refine gx_dup C dX2_comes_40 ?_
      refine gx_aload_n C dX2_comes_41 1 rfl ?_
      refine gx_callIV (As := [rv g v1]) (rest := [rv g v37]) C E dX2_comes_42 (mx7_init (cx_l X) g v37 v1) (lw_meth q875) q149 q873 q874 rfl hyx_X7_init hR (Nat.le_of_ble_eq_true rfl) (by decide) rfl rfl (by simp only [List.map_cons, List.map_nil, List.sum_cons, List.sum_nil, rv_cat, cat_int, cat_long]; decide) ?_
      refine gj_goto (tgt := 88) C dX2_comes_45 (by decide) ?_
      exact gj_to [2] (J88 a0 v37) rfl
  · refine gx_aload_n C dX2_comes_16 1 rfl ?_
    refine gj_iconst C dX2_comes_17 ?_
    refine gx_callVR (t0 := 2) (As := [.int (iI 3)]) (rest := []) C E rfl dX2_comes_18 (mx2_wrong (cx_l X) g a0 3) (lw_V q602 q604 qs4 q126 q605) hyx_X2_wrong rfl hR (Nat.le_of_ble_eq_true rfl) (by decide) rfl rfl (Nat.zero_le _) (fun v18 => ?_)
    exact gy_athrow C E hX hQ dX2_comes_21
def x2_person (a0 : Option Nat) : XT Hp Int :=
  pbnd (xgR a0 2 7) fun v1 =>
  pbnd (xrecv a0 2) fun _ =>
  xbnd (x2_name a0) fun v5 =>
  pbnd (xrecv v1 3) fun _ =>
  pbnd (x3_person v1 v5) fun v8 =>
  pite (w32 v8 < 0) (
    pbnd (xrecv a0 2) fun _ =>
    pbnd (x2_wrong a0 2) fun v18 =>
    xthrow v18) (
    xret v8)
set_option maxHeartbeats 4000000 in
set_option maxRecDepth 100000 in
theorem mx2_person (l : Launch) (g : XG) (a0 : Option Nat) : XMetX l g RX6 yX2_person cX2_person 2 (Option.some Jvm.ClassFile.FieldType.int) (7) [rv g a0] (x2_person a0) rvI := by
  refine gy_start (by decide +kernel) (by have e := lg_sl_len [rv g a0]; simp only [List.map_cons, List.map_nil, List.sum_cons, List.sum_nil, rv_cat, cat_int, cat_long] at e; omega) (fun X Q σ0 hl C E hQ hR hr hX => ?_)
  subst hl
  rw [show lv_args 0 [rv g a0] = [(0, rv g a0)] from by simp [lv_args, rv_cat, cat_int, cat_long]]
  show GJ X 2 (xWo g σ0 (cx_s X).heap) Q (x2_person a0) 0 [(0, rv g a0)] []
  unfold x2_person
  refine gx_aload_n C dX2_person_0 0 rfl ?_
  refine gx_gR (O := "BorrowedLives$Reader") (nm := "town") (ds := "LBorrowedLives$Town;") (fin := false) C E dX2_person_1 (by decide +kernel) (Or.inl q195) (fun _ h => h) (fun v1 => ?_)
  refine gx_aload_n C dX2_person_4 0 rfl ?_
  refine gy_callVR (t0 := 2) (As := []) (rest := [rv g v1]) C E hX hQ rfl dX2_person_5 (mx2_name (cx_l X) g a0) (lw_V q688 q690 qs9 q126 q691) hyx_X2_name rfl hR (Nat.le_of_ble_eq_true rfl) (by decide) rfl rfl (by simp only [List.map_cons, List.map_nil, List.sum_cons, List.sum_nil, rv_cat, cat_int, cat_long]; decide) (fun v5 => ?_)
  refine gx_callVI (t0 := 3) (As := [rv g v5]) (rest := []) C E rfl dX2_person_8 (mx3_person (cx_l X) g v1 v5) (lw_V q851 q852 q853 q127 q854) hyx_X3_person rfl hR (Nat.le_of_ble_eq_true rfl) (by decide) rfl rfl (Nat.zero_le _) (fun v8 => ?_)
  refine gj_istore_n (L' := [(1, .int (iI v8)), (0, rv g a0)]) C dX2_person_11 (by decide) (by simp [List.filter, rv_cat, cat_int, cat_long, fin4_3]) ?_
  refine gj_iload_n C dX2_person_12 0 rfl ?_
  refine gj_if_ge (tgt := 22) C dX2_person_13 (by decide) (fun h13 => gj_neg h13 ?_) (fun h13 => gj_pos h13 ?_)
  · refine gj_iload_n C dX2_person_22 0 rfl ?_
    exact gy_iret C hQ hr dX2_person_23
  · refine gx_aload_n C dX2_person_16 1 rfl ?_
    refine gj_iconst C dX2_person_17 ?_
    refine gx_callVR (t0 := 2) (As := [.int (iI 2)]) (rest := []) C E rfl dX2_person_18 (mx2_wrong (cx_l X) g a0 2) (lw_V q602 q604 qs4 q126 q605) hyx_X2_wrong rfl hR (Nat.le_of_ble_eq_true rfl) (by decide) rfl rfl (Nat.zero_le _) (fun v18 => ?_)
    exact gy_athrow C E hX hQ dX2_person_21
def x1_isIn (a0 a1 : Int) : PT Hp Int :=
  plet (if w32 (zand (zshr a0 a1) 1) = 1 then 1 else 0) fun d14 =>
  pbnd (pzo d14) fun _ => pret d14
set_option maxHeartbeats 4000000 in
set_option maxRecDepth 100000 in
theorem mx1_isIn (l : Launch) (g : XG) (a0 a1 : Int) : XMet l g yX1_isIn cX1_isIn 2 (Option.some Jvm.ClassFile.FieldType.boolean) (0) [.int (iI a0), .int (iI a1)] (x1_isIn a0 a1) rvI := by
  refine gx_start (by decide +kernel) (by have e := lg_sl_len [.int (iI a0), .int (iI a1)]; simp only [List.map_cons, List.map_nil, List.sum_cons, List.sum_nil, rv_cat, cat_int, cat_long] at e; omega) (fun X Q σ0 hl C E hQ hR hr hnm => ?_)
  subst hl
  show GJ X 2 (xWo g σ0 (cx_s X).heap) Q (x1_isIn a0 a1) 0 [(0, .int (iI a0)), (1, .int (iI a1))] []
  unfold x1_isIn
  refine gj_iload_n C dX1_isIn_0 0 rfl ?_
  refine gj_iload_n C dX1_isIn_1 1 rfl ?_
  refine gj_ishr C dX1_isIn_2 ?_
  refine gj_iconst C dX1_isIn_3 ?_
  refine gj_iand C dX1_isIn_4 ?_
  refine gj_iconst C dX1_isIn_5 ?_
  refine gj_dia (J := 14) (L := [(0, .int (iI a0)), (1, .int (iI a1))]) (st := []) (fun d14 => ?_) (fun t hJ => ?_)
  · skip
    exact gx_zret C hQ hr dX1_isIn_14
  · refine gj_icmp_ne (tgt := 13) (b' := 1) C dX1_isIn_6 (by decide) rfl (by decide) (fun h6 => ?_) (fun h6 => ?_)
    · refine gj_iconst C dX1_isIn_13 ?_
      exact (by rw [if_neg h6] at hJ; exact hJ)
    · refine gj_iconst C dX1_isIn_9 ?_
      refine gj_goto (tgt := 14) C dX1_isIn_10 (by decide) ?_
      exact (by rw [if_pos h6] at hJ; exact hJ)
def x2_isSign (a0 : Option Nat) (a1 : Int) : PT Hp Int :=
  pbnd (xgI a0 2 3) fun v1 =>
  pite (w32 v1 = 3) (
    pbnd (xgR a0 2 0) fun v9 =>
    pbnd (xgI a0 2 4) fun v13 =>
    pbnd (xld v9 43 v13) fun v16 =>
    pite (w32 v16 = w32 a1) (
      pbnd (pzo 1) fun _ => pret 1) (
      pbnd (pzo 0) fun _ => pret 0)) (
    pbnd (pzo 0) fun _ => pret 0)
set_option maxHeartbeats 4000000 in
set_option maxRecDepth 100000 in
theorem mx2_isSign (l : Launch) (g : XG) (a0 : Option Nat) (a1 : Int) : XMet l g yX2_isSign cX2_isSign 2 (Option.some Jvm.ClassFile.FieldType.boolean) (0) [rv g a0, .int (iI a1)] (x2_isSign a0 a1) rvI := by
  refine gx_start (by decide +kernel) (by have e := lg_sl_len [rv g a0, .int (iI a1)]; simp only [List.map_cons, List.map_nil, List.sum_cons, List.sum_nil, rv_cat, cat_int, cat_long] at e; omega) (fun X Q σ0 hl C E hQ hR hr hnm => ?_)
  subst hl
  rw [show lv_args 0 [rv g a0, .int (iI a1)] = [(0, rv g a0), (1, .int (iI a1))] from by simp [lv_args, rv_cat, cat_int, cat_long]]
  show GJ X 2 (xWo g σ0 (cx_s X).heap) Q (x2_isSign a0 a1) 0 [(0, rv g a0), (1, .int (iI a1))] []
  unfold x2_isSign
  refine gx_aload_n C dX2_isSign_0 0 rfl ?_
  refine gx_gI (O := "BorrowedLives$Reader") (nm := "kind") (ds := "I") (fin := false) C E dX2_isSign_1 (by decide +kernel) (Or.inl q191) (fun _ h => h) (fun v1 => ?_)
  refine gj_iconst C dX2_isSign_4 ?_
  refine gj_icmp_ne (tgt := 25) (b' := 3) C dX2_isSign_5 (by decide) rfl (by decide) (fun h5 => gj_neg h5 ?_) (fun h5 => gj_pos h5 ?_)
  · refine gj_iconst C dX2_isSign_25 ?_
    exact gx_zret C hQ hr dX2_isSign_26
  · refine gx_aload_n C dX2_isSign_8 0 rfl ?_
    refine gx_gR (O := "BorrowedLives$Reader") (nm := "text") (ds := "[B") (fin := false) C E dX2_isSign_9 (by decide +kernel) (Or.inl q188) (fun _ h => h) (fun v9 => ?_)
    refine gx_aload_n C dX2_isSign_12 0 rfl ?_
    refine gx_gI (O := "BorrowedLives$Reader") (nm := "from") (ds := "I") (fin := false) C E dX2_isSign_13 (by decide +kernel) (Or.inl q192) (fun _ h => h) (fun v13 => ?_)
    refine gx_bald C E dX2_isSign_16 (fun v16 => ?_)
    refine gj_iload_n C dX2_isSign_17 1 rfl ?_
    refine gj_icmp_ne (tgt := 25) C dX2_isSign_18 (by decide) rfl rfl (fun h18 => gj_neg h18 ?_) (fun h18 => gj_pos h18 ?_)
    · refine gj_iconst C dX2_isSign_25 ?_
      exact gx_zret C hQ hr dX2_isSign_26
    · refine gj_iconst C dX2_isSign_21 ?_
      refine gj_goto (tgt := 26) C dX2_isSign_22 (by decide) ?_
      exact gx_zret C hQ hr dX2_isSign_26
def x11_init (a0 : Option Nat) : PT Hp Unit :=
  pbnd (xnn a0) fun _ =>
  pret ()
set_option maxHeartbeats 4000000 in
set_option maxRecDepth 100000 in
theorem mx11_init (l : Launch) (g : XG) (a0 : Option Nat) : XMet l g yX11_init cX11_init 1 (Option.none : Option Jvm.ClassFile.FieldType) (1) [rv g a0] (x11_init a0) rvV := by
  refine gx_start (by decide +kernel) (by have e := lg_sl_len [rv g a0]; simp only [List.map_cons, List.map_nil, List.sum_cons, List.sum_nil, rv_cat, cat_int, cat_long] at e; omega) (fun X Q σ0 hl C E hQ hR hr hnm => ?_)
  subst hl
  rw [show lv_args 0 [rv g a0] = [(0, rv g a0)] from by simp [lv_args, rv_cat, cat_int, cat_long]]
  show GJ X 1 (xWo g σ0 (cx_s X).heap) Q (x11_init a0) 0 [(0, rv g a0)] []
  unfold x11_init
  refine gx_aload_n C dX11_init_0 0 rfl ?_
  refine gx_objinit C E dX11_init_1 q1065 q180 q181 hR (Nat.le_of_ble_eq_true rfl) (Nat.zero_le _) ?_
  exact gx_vret C hQ hr dX11_init_4
def x12_init (a0 : Option Nat) (a1 : Int) : PT Hp Unit :=
  pbnd (xnn a0) fun _ =>
  pbnd (x11_init a0) fun _ =>
  pbnd (xpI a0 10 0 (w32 a1)) fun _ =>
  pret ()
set_option maxHeartbeats 4000000 in
set_option maxRecDepth 100000 in
theorem mx12_init (l : Launch) (g : XG) (a0 : Option Nat) (a1 : Int) : XMet l g yX12_init cX12_init 2 (Option.none : Option Jvm.ClassFile.FieldType) (2) [rv g a0, .int (iI a1)] (x12_init a0 a1) rvV := by
  refine gx_start (by decide +kernel) (by have e := lg_sl_len [rv g a0, .int (iI a1)]; simp only [List.map_cons, List.map_nil, List.sum_cons, List.sum_nil, rv_cat, cat_int, cat_long] at e; omega) (fun X Q σ0 hl C E hQ hR hr hnm => ?_)
  subst hl
  rw [show lv_args 0 [rv g a0, .int (iI a1)] = [(0, rv g a0), (1, .int (iI a1))] from by simp [lv_args, rv_cat, cat_int, cat_long]]
  show GJ X 2 (xWo g σ0 (cx_s X).heap) Q (x12_init a0 a1) 0 [(0, rv g a0), (1, .int (iI a1))] []
  unfold x12_init
  refine gx_aload_n C dX12_init_0 0 rfl ?_
  refine gx_callINV (As := []) (rest := []) C E dX12_init_1 (mx11_init (cx_l X) g a0) (lw_meth q1064) q153 q1062 q1063 rfl hyx_X11_init hR (Nat.le_of_ble_eq_true rfl) (by decide) rfl rfl (Nat.zero_le _) ?_
  refine gx_aload_n C dX12_init_4 0 rfl ?_
  refine gj_iload_n C dX12_init_5 1 rfl ?_
  refine gj_nrmI ?_
  refine gx_pI (O := "BorrowedLives$Given") (nm := "n") (ds := "I") (fin := true) (ty := .int) C E dX12_init_6 (by decide +kernel) (Or.inl q1066) (fun _ h => h) (fun _ => ⟨hnm, rfl⟩) (by decide +kernel) (inty_int _) ?_
  exact gx_vret C hQ hr dX12_init_9
def x13_init (a0 : Option Nat) (a1 : Int) : PT Hp Unit :=
  pbnd (xnn a0) fun _ =>
  pbnd (x11_init a0) fun _ =>
  pbnd (xpI a0 11 0 (w32 a1)) fun _ =>
  pret ()
set_option maxHeartbeats 4000000 in
set_option maxRecDepth 100000 in
theorem mx13_init (l : Launch) (g : XG) (a0 : Option Nat) (a1 : Int) : XMet l g yX13_init cX13_init 2 (Option.none : Option Jvm.ClassFile.FieldType) (2) [rv g a0, .int (iI a1)] (x13_init a0 a1) rvV := by
  refine gx_start (by decide +kernel) (by have e := lg_sl_len [rv g a0, .int (iI a1)]; simp only [List.map_cons, List.map_nil, List.sum_cons, List.sum_nil, rv_cat, cat_int, cat_long] at e; omega) (fun X Q σ0 hl C E hQ hR hr hnm => ?_)
  subst hl
  rw [show lv_args 0 [rv g a0, .int (iI a1)] = [(0, rv g a0), (1, .int (iI a1))] from by simp [lv_args, rv_cat, cat_int, cat_long]]
  show GJ X 2 (xWo g σ0 (cx_s X).heap) Q (x13_init a0 a1) 0 [(0, rv g a0), (1, .int (iI a1))] []
  unfold x13_init
  refine gx_aload_n C dX13_init_0 0 rfl ?_
  refine gx_callINV (As := []) (rest := []) C E dX13_init_1 (mx11_init (cx_l X) g a0) (lw_meth q1064) q153 q1075 q1063 rfl hyx_X11_init hR (Nat.le_of_ble_eq_true rfl) (by decide) rfl rfl (Nat.zero_le _) ?_
  refine gx_aload_n C dX13_init_4 0 rfl ?_
  refine gj_iload_n C dX13_init_5 1 rfl ?_
  refine gj_nrmI ?_
  refine gx_pI (O := "BorrowedLives$Fact") (nm := "which") (ds := "I") (fin := true) (ty := .int) C E dX13_init_6 (by decide +kernel) (Or.inl q1076) (fun _ h => h) (fun _ => ⟨hnm, rfl⟩) (by decide +kernel) (inty_int _) ?_
  exact gx_vret C hQ hr dX13_init_9
def x14_init (a0 a1 : Option Nat) : PT Hp Unit :=
  pbnd (xnn a0) fun _ =>
  pbnd (x11_init a0) fun _ =>
  pbnd (xpR a0 12 0 a1) fun _ =>
  pret ()
set_option maxHeartbeats 4000000 in
set_option maxRecDepth 100000 in
theorem mx14_init (l : Launch) (g : XG) (a0 a1 : Option Nat) : XMet l g yX14_init cX14_init 2 (Option.none : Option Jvm.ClassFile.FieldType) (2) [rv g a0, rv g a1] (x14_init a0 a1) rvV := by
  refine gx_start (by decide +kernel) (by have e := lg_sl_len [rv g a0, rv g a1]; simp only [List.map_cons, List.map_nil, List.sum_cons, List.sum_nil, rv_cat, cat_int, cat_long] at e; omega) (fun X Q σ0 hl C E hQ hR hr hnm => ?_)
  subst hl
  rw [show lv_args 0 [rv g a0, rv g a1] = [(0, rv g a0), (1, rv g a1)] from by simp [lv_args, rv_cat, cat_int, cat_long]]
  show GJ X 2 (xWo g σ0 (cx_s X).heap) Q (x14_init a0 a1) 0 [(0, rv g a0), (1, rv g a1)] []
  unfold x14_init
  refine gx_aload_n C dX14_init_0 0 rfl ?_
  refine gx_callINV (As := []) (rest := []) C E dX14_init_1 (mx11_init (cx_l X) g a0) (lw_meth q1064) q153 q1085 q1063 rfl hyx_X11_init hR (Nat.le_of_ble_eq_true rfl) (by decide) rfl rfl (Nat.zero_le _) ?_
  refine gx_aload_n C dX14_init_4 0 rfl ?_
  refine gx_aload_n C dX14_init_5 1 rfl ?_
  refine gx_pR (O := "BorrowedLives$Not") (nm := "part") (ds := "LBorrowedLives$Expression;") (fin := true) (ty := (.object "BorrowedLives$Expression")) C E dX14_init_6 (by decide +kernel) (Or.inl q1086) (fun _ h => h) (fun _ => ⟨hnm, rfl⟩) (by decide +kernel) (by decide) ?_
  exact gx_vret C hQ hr dX14_init_9
def x2_need_2 (a0 : Option Nat) (a1 : Int) : XT Hp Unit :=
  pbnd (xrecv a0 2) fun _ =>
  pbnd (x2_isSign a0 a1) fun v2 =>
  pite (w32 v2 = 0) (
    pbnd (xrecv a0 2) fun _ =>
    pbnd (x2_wrong a0 1) fun v10 =>
    xthrow v10) (
    pbnd (xrecv a0 2) fun _ =>
    pbnd (x2_next a0) fun _ =>
    xret ())
set_option maxHeartbeats 4000000 in
set_option maxRecDepth 100000 in
theorem mx2_need_2 (l : Launch) (g : XG) (a0 : Option Nat) (a1 : Int) : XMetX l g RX6 yX2_need_2 cX2_need_2 2 (Option.none : Option Jvm.ClassFile.FieldType) (6) [rv g a0, .int (iI a1)] (x2_need_2 a0 a1) rvV := by
  refine gy_start (by decide +kernel) (by have e := lg_sl_len [rv g a0, .int (iI a1)]; simp only [List.map_cons, List.map_nil, List.sum_cons, List.sum_nil, rv_cat, cat_int, cat_long] at e; omega) (fun X Q σ0 hl C E hQ hR hr hX => ?_)
  subst hl
  rw [show lv_args 0 [rv g a0, .int (iI a1)] = [(0, rv g a0), (1, .int (iI a1))] from by simp [lv_args, rv_cat, cat_int, cat_long]]
  show GJ X 2 (xWo g σ0 (cx_s X).heap) Q (x2_need_2 a0 a1) 0 [(0, rv g a0), (1, .int (iI a1))] []
  unfold x2_need_2
  refine gx_aload_n C dX2_need_2_0 0 rfl ?_
  refine gj_iload_n C dX2_need_2_1 1 rfl ?_
  refine gx_callVI (t0 := 2) (As := [.int (iI a1)]) (rest := []) C E rfl dX2_need_2_2 (mx2_isSign (cx_l X) g a0 a1) (lw_V q1053 q1055 qs24 q126 q1056) hyx_X2_isSign rfl hR (Nat.le_of_ble_eq_true rfl) (by decide) rfl rfl (Nat.zero_le _) (fun v2 => ?_)
  refine gj_if_ne (tgt := 14) C dX2_need_2_5 (by decide) (fun h5 => gj_neg h5 ?_) (fun h5 => gj_pos h5 ?_)
  · refine gx_aload_n C dX2_need_2_14 0 rfl ?_
    refine gx_callVV (t0 := 2) (As := []) (rest := []) C E rfl dX2_need_2_15 (mx2_next (cx_l X) g a0) (lw_V q470 q472 qs1 q126 q473) hyx_X2_next rfl hR (Nat.le_of_ble_eq_true rfl) (by decide) rfl rfl (Nat.zero_le _) ?_
    exact gy_vret C hQ hr dX2_need_2_18
  · refine gx_aload_n C dX2_need_2_8 0 rfl ?_
    refine gj_iconst C dX2_need_2_9 ?_
    refine gx_callVR (t0 := 2) (As := [.int (iI 1)]) (rest := []) C E rfl dX2_need_2_10 (mx2_wrong (cx_l X) g a0 1) (lw_V q602 q604 qs4 q126 q605) hyx_X2_wrong rfl hR (Nat.le_of_ble_eq_true rfl) (by decide) rfl rfl (Nat.zero_le _) (fun v10 => ?_)
    exact gy_athrow C E hX hQ dX2_need_2_13
def x15_init (a0 : Option Nat) (a1 : Int) (a2 a3 : Option Nat) : PT Hp Unit :=
  pbnd (xnn a0) fun _ =>
  pbnd (x11_init a0) fun _ =>
  pbnd (pzc a1) fun _ =>
  pbnd (xpI a0 13 0 a1) fun _ =>
  pbnd (xpR a0 13 1 a2) fun _ =>
  pbnd (xpR a0 13 2 a3) fun _ =>
  pret ()
set_option maxHeartbeats 4000000 in
set_option maxRecDepth 100000 in
theorem mx15_init (l : Launch) (g : XG) (a0 : Option Nat) (a1 : Int) (a2 a3 : Option Nat) : XMet l g yX15_init cX15_init 4 (Option.none : Option Jvm.ClassFile.FieldType) (2) [rv g a0, .int (iI a1), rv g a2, rv g a3] (x15_init a0 a1 a2 a3) rvV := by
  refine gx_start (by decide +kernel) (by have e := lg_sl_len [rv g a0, .int (iI a1), rv g a2, rv g a3]; simp only [List.map_cons, List.map_nil, List.sum_cons, List.sum_nil, rv_cat, cat_int, cat_long] at e; omega) (fun X Q σ0 hl C E hQ hR hr hnm => ?_)
  subst hl
  rw [show lv_args 0 [rv g a0, .int (iI a1), rv g a2, rv g a3] = [(0, rv g a0), (1, .int (iI a1)), (2, rv g a2), (3, rv g a3)] from by simp [lv_args, rv_cat, cat_int, cat_long]]
  show GJ X 4 (xWo g σ0 (cx_s X).heap) Q (x15_init a0 a1 a2 a3) 0 [(0, rv g a0), (1, .int (iI a1)), (2, rv g a2), (3, rv g a3)] []
  unfold x15_init
  refine gx_aload_n C dX15_init_0 0 rfl ?_
  refine gx_callINV (As := []) (rest := []) C E dX15_init_1 (mx11_init (cx_l X) g a0) (lw_meth q1064) q153 q1099 q1063 rfl hyx_X11_init hR (Nat.le_of_ble_eq_true rfl) (by decide) rfl rfl (Nat.zero_le _) ?_
  refine gx_aload_n C dX15_init_4 0 rfl ?_
  refine gj_iload_n C dX15_init_5 1 rfl ?_
  refine gx_pzc (fun hz6 => ?_)
  refine gx_pI (O := "BorrowedLives$Two") (nm := "way") (ds := "C") (fin := true) (ty := .char) C E dX15_init_6 (by decide +kernel) (Or.inl q1100) (fun _ h => h) (fun _ => ⟨hnm, rfl⟩) (by decide +kernel) (inty_c hz6) ?_
  refine gx_aload_n C dX15_init_9 0 rfl ?_
  refine gx_aload_n C dX15_init_10 2 rfl ?_
  refine gx_pR (O := "BorrowedLives$Two") (nm := "a") (ds := "LBorrowedLives$Expression;") (fin := true) (ty := (.object "BorrowedLives$Expression")) C E dX15_init_11 (by decide +kernel) (Or.inl q1101) (fun _ h => h) (fun _ => ⟨hnm, rfl⟩) (by decide +kernel) (by decide) ?_
  refine gx_aload_n C dX15_init_14 0 rfl ?_
  refine gx_aload_n C dX15_init_15 3 rfl ?_
  refine gx_pR (O := "BorrowedLives$Two") (nm := "b") (ds := "LBorrowedLives$Expression;") (fin := true) (ty := (.object "BorrowedLives$Expression")) C E dX15_init_16 (by decide +kernel) (Or.inl q1102) (fun _ h => h) (fun _ => ⟨hnm, rfl⟩) (by decide +kernel) (by decide) ?_
  exact gx_vret C hQ hr dX15_init_19
def x2_product_b5 (tp : Option Nat → XT Hp (Option Nat)) (a0 : Option Nat) (a1 : Option Nat) (bk5 : (Option Nat) → XT Hp (Option Nat)) : XT Hp (Option Nat) :=
  pbnd (xrecv a0 2) fun _ =>
  pbnd (x2_isSign a0 42) fun v8 =>
  pite (w32 v8 = 0) (
    xret a1) (
    pbnd (xrecv a0 2) fun _ =>
    pbnd (x2_next a0) fun _ =>
    pbnd (xnew 13) fun v18 =>
    pbnd (xrecv a0 2) fun _ =>
    xbnd (tp a0) fun v26 =>
    pbnd (xnn v18) fun _ =>
    pbnd (x15_init v18 42 a1 v26) fun _ =>
    bk5 (v18))
def x2_product_l5 (tp : Option Nat → XT Hp (Option Nat)) (a0 a1 : Option Nat) : XT Hp (Option Nat) :=
  ploop (fun (s : (Option Nat)) bk5 => x2_product_b5 tp a0 s bk5) (a1)
def x2_product (tp : Option Nat → XT Hp (Option Nat)) (a0 : Option Nat) : XT Hp (Option Nat) :=
  pbnd (xrecv a0 2) fun _ =>
  xbnd (tp a0) fun v1 =>
  x2_product_l5 tp a0 v1
set_option maxHeartbeats 4000000 in
set_option maxRecDepth 100000 in
theorem mx2_product (l : Launch) (g : XG) {kT : Nat} (hkT : 40 ≤ kT) {tp : Option Nat → XT Hp (Option Nat)} (hTP : ∀ (a0 : Option Nat), XMetX l g RX6 yX2_part cX2_part 5 (Option.some (Jvm.ClassFile.FieldType.object "BorrowedLives$Expression")) (kT) [rv g a0] (tp a0) (rvR g)) (a0 : Option Nat) : XMetX l g RX6 yX2_product cX2_product 2 (Option.some (Jvm.ClassFile.FieldType.object "BorrowedLives$Expression")) (kT + 1) [rv g a0] (x2_product tp a0) (rvR g) := by
  refine gy_start (by decide +kernel) (by have e := lg_sl_len [rv g a0]; simp only [List.map_cons, List.map_nil, List.sum_cons, List.sum_nil, rv_cat, cat_int, cat_long] at e; omega) (fun X Q σ0 hl C E hQ hR hr hX => ?_)
  subst hl
  rw [show lv_args 0 [rv g a0] = [(0, rv g a0)] from by simp [lv_args, rv_cat, cat_int, cat_long]]
  show GJ X 2 (xWo g σ0 (cx_s X).heap) Q (x2_product tp a0) 0 [(0, rv g a0)] []
  have J5 : ∀ (a0 a1 : Option Nat), GJ X 2 (xWo g σ0 (cx_s X).heap) Q (x2_product_l5 tp a0 a1) 5 [(0, rv g a0), (1, rv g a1)] [] := by
    intro a0 a1
    unfold x2_product_l5
    refine gj_loop (fun (s : (Option Nat)) => [(0, rv g a0), (1, rv g s)]) (a1) (fun bk5 hb5 s => ?_)
    obtain ⟨a1, rfl⟩ : ∃ z, z = s := ⟨s, rfl⟩
    show GJ X 2 (xWo g σ0 (cx_s X).heap) Q (x2_product_b5 tp a0 a1 bk5) 5 [(0, rv g a0), (1, rv g a1)] []
    unfold x2_product_b5
    refine gx_aload_n C dX2_product_5 0 rfl ?_
    refine gj_bipush C dX2_product_6 rfl ?_
    refine gx_callVI (t0 := 2) (As := [.int (iI 42)]) (rest := []) C E rfl dX2_product_8 (mx2_isSign (cx_l X) g a0 42) (lw_V q1053 q1055 qs24 q126 q1056) hyx_X2_isSign rfl hR (by omega) (by decide) rfl rfl (Nat.zero_le _) (fun v8 => ?_)
    refine gj_if_eq (tgt := 36) C dX2_product_11 (by decide) (fun h11 => gj_pos h11 ?_) (fun h11 => gj_neg h11 ?_)
    · refine gx_aload_n C dX2_product_36 1 rfl ?_
      exact gy_aret C hQ hr (Or.inl ⟨_, rfl⟩) dX2_product_37
    · refine gx_aload_n C dX2_product_14 0 rfl ?_
      refine gx_callVV (t0 := 2) (As := []) (rest := []) C E rfl dX2_product_15 (mx2_next (cx_l X) g a0) (lw_V q470 q472 qs1 q126 q473) hyx_X2_next rfl hR (by omega) (by decide) rfl rfl (Nat.zero_le _) ?_
      refine gx_new (t0 := 13) C E dX2_product_18 rfl q1094 q1095 q157 (fun v18 => ?_)
      refine gx_dup C dX2_product_21 ?_
      refine gj_bipush C dX2_product_22 rfl ?_
      refine gx_aload_n C dX2_product_24 1 rfl ?_
      refine gx_aload_n C dX2_product_25 0 rfl ?_
      refine gy_callVR (t0 := 2) (As := []) (rest := [rv g a1, .int (iI 42), rv g v18, rv g v18]) C E hX hQ rfl dX2_product_26 (hTP a0) (lw_V q1048 q1050 qs23 q126 q1051) hyx_X2_part rfl hR (by omega) (by decide) rfl rfl (by simp only [List.map_cons, List.map_nil, List.sum_cons, List.sum_nil, rv_cat, cat_int, cat_long]; decide) (fun v26 => ?_)
      refine gx_callIV (As := [.int (iI 42), rv g a1, rv g v26]) (rest := [rv g v18]) C E dX2_product_29 (mx15_init (cx_l X) g v18 42 a1 v26) (lw_meth q1098) q157 q1096 q1097 rfl hyx_X15_init hR (by omega) (by decide) rfl rfl (by simp only [List.map_cons, List.map_nil, List.sum_cons, List.sum_nil, rv_cat, cat_int, cat_long]; decide) ?_
      refine gx_astore_n (L' := [(1, rv g v18), (0, rv g a0)]) C dX2_product_32 (by decide) (by simp [List.filter, rv_cat, cat_int, cat_long, fin4_3]) ?_
      refine gj_goto (tgt := 5) C dX2_product_33 (by decide) ?_
      exact gj_to [1, 0] (hb5 (v18)) rfl
  unfold x2_product
  refine gx_aload_n C dX2_product_0 0 rfl ?_
  refine gy_callVR (t0 := 2) (As := []) (rest := []) C E hX hQ rfl dX2_product_1 (hTP a0) (lw_V q1048 q1050 qs23 q126 q1051) hyx_X2_part rfl hR (by omega) (by decide) rfl rfl (Nat.zero_le _) (fun v1 => ?_)
  refine gx_astore_n (L' := [(1, rv g v1), (0, rv g a0)]) C dX2_product_4 (by decide) (by simp [List.filter, rv_cat, cat_int, cat_long, fin4_3]) ?_
  exact gj_to [1, 0] (J5 a0 v1) rfl
def x2_sum_j23 (tp : Option Nat → XT Hp (Option Nat)) (a0 a1 : Option Nat) (bk5 : (Option Nat) → XT Hp (Option Nat)) : XT Hp (Option Nat) :=
  pbnd (xrecv a0 2) fun _ =>
  pbnd (x2_isSign a0 43) fun v26 =>
  plet (if w32 v26 = 0 then 45 else 43) fun d39 =>
  pbnd (xrecv a0 2) fun _ =>
  pbnd (x2_next a0) fun _ =>
  pbnd (xnew 13) fun v44 =>
  pbnd (xrecv a0 2) fun _ =>
  xbnd (x2_product tp a0) fun v51 =>
  pbnd (xnn v44) fun _ =>
  pbnd (x15_init v44 d39 a1 v51) fun _ =>
  bk5 (v44)
def x2_sum_b5 (tp : Option Nat → XT Hp (Option Nat)) (a0 : Option Nat) (a1 : Option Nat) (bk5 : (Option Nat) → XT Hp (Option Nat)) : XT Hp (Option Nat) :=
  pbnd (xrecv a0 2) fun _ =>
  pbnd (x2_isSign a0 43) fun v8 =>
  pite (w32 v8 = 0) (
    pbnd (xrecv a0 2) fun _ =>
    pbnd (x2_isSign a0 45) fun v17 =>
    pite (w32 v17 = 0) (
      xret a1) (
      x2_sum_j23 tp a0 a1 bk5)) (
    x2_sum_j23 tp a0 a1 bk5)
def x2_sum_l5 (tp : Option Nat → XT Hp (Option Nat)) (a0 a1 : Option Nat) : XT Hp (Option Nat) :=
  ploop (fun (s : (Option Nat)) bk5 => x2_sum_b5 tp a0 s bk5) (a1)
def x2_sum (tp : Option Nat → XT Hp (Option Nat)) (a0 : Option Nat) : XT Hp (Option Nat) :=
  pbnd (xrecv a0 2) fun _ =>
  xbnd (x2_product tp a0) fun v1 =>
  x2_sum_l5 tp a0 v1
set_option maxHeartbeats 4000000 in
set_option maxRecDepth 100000 in
theorem mx2_sum (l : Launch) (g : XG) {kT : Nat} (hkT : 40 ≤ kT) {tp : Option Nat → XT Hp (Option Nat)} (hTP : ∀ (a0 : Option Nat), XMetX l g RX6 yX2_part cX2_part 5 (Option.some (Jvm.ClassFile.FieldType.object "BorrowedLives$Expression")) (kT) [rv g a0] (tp a0) (rvR g)) (a0 : Option Nat) : XMetX l g RX6 yX2_sum cX2_sum 3 (Option.some (Jvm.ClassFile.FieldType.object "BorrowedLives$Expression")) (kT + 2) [rv g a0] (x2_sum tp a0) (rvR g) := by
  refine gy_start (by decide +kernel) (by have e := lg_sl_len [rv g a0]; simp only [List.map_cons, List.map_nil, List.sum_cons, List.sum_nil, rv_cat, cat_int, cat_long] at e; omega) (fun X Q σ0 hl C E hQ hR hr hX => ?_)
  subst hl
  rw [show lv_args 0 [rv g a0] = [(0, rv g a0)] from by simp [lv_args, rv_cat, cat_int, cat_long]]
  show GJ X 3 (xWo g σ0 (cx_s X).heap) Q (x2_sum tp a0) 0 [(0, rv g a0)] []
  have J5 : ∀ (a0 a1 : Option Nat), GJ X 3 (xWo g σ0 (cx_s X).heap) Q (x2_sum_l5 tp a0 a1) 5 [(0, rv g a0), (1, rv g a1)] [] := by
    intro a0 a1
    unfold x2_sum_l5
    refine gj_loop (fun (s : (Option Nat)) => [(0, rv g a0), (1, rv g s)]) (a1) (fun bk5 hb5 s => ?_)
    obtain ⟨a1, rfl⟩ : ∃ z, z = s := ⟨s, rfl⟩
    show GJ X 3 (xWo g σ0 (cx_s X).heap) Q (x2_sum_b5 tp a0 a1 bk5) 5 [(0, rv g a0), (1, rv g a1)] []
    have J23 : ∀ (a1 : Option Nat), GJ X 3 (xWo g σ0 (cx_s X).heap) Q (x2_sum_j23 tp a0 a1 bk5) 23 [(0, rv g a0), (1, rv g a1)] [] := by
      intro a1
      unfold x2_sum_j23
      refine gx_aload_n C dX2_sum_23 0 rfl ?_
      refine gj_bipush C dX2_sum_24 rfl ?_
      refine gx_callVI (t0 := 2) (As := [.int (iI 43)]) (rest := []) C E rfl dX2_sum_26 (mx2_isSign (cx_l X) g a0 43) (lw_V q1053 q1055 qs24 q126 q1056) hyx_X2_isSign rfl hR (by omega) (by decide) rfl rfl (Nat.zero_le _) (fun v26 => ?_)
      refine gj_dia (J := 39) (L := [(0, rv g a0), (1, rv g a1)]) (st := []) (fun d39 => ?_) (fun t hJ => ?_)
      · skip
        refine gj_istore_n (L' := [(2, .int (iI d39)), (0, rv g a0), (1, rv g a1)]) C dX2_sum_39 (by decide) (by simp [List.filter, rv_cat, cat_int, cat_long, fin4_3]) ?_
        refine gx_aload_n C dX2_sum_40 1 rfl ?_
        refine gx_callVV (t0 := 2) (As := []) (rest := []) C E rfl dX2_sum_41 (mx2_next (cx_l X) g a0) (lw_V q470 q472 qs1 q126 q473) hyx_X2_next rfl hR (by omega) (by decide) rfl rfl (Nat.zero_le _) ?_
        refine gx_new (t0 := 13) C E dX2_sum_44 rfl q1094 q1095 q157 (fun v44 => ?_)
        refine gx_dup C dX2_sum_47 ?_
        refine gj_iload_n C dX2_sum_48 0 rfl ?_
        refine gx_aload_n C dX2_sum_49 2 rfl ?_
        refine gx_aload_n C dX2_sum_50 1 rfl ?_
        refine gy_callVR (t0 := 2) (As := []) (rest := [rv g a1, .int (iI d39), rv g v44, rv g v44]) C E hX hQ rfl dX2_sum_51 (mx2_product (cx_l X) g hkT hTP a0) (lw_V q1044 q1046 qs22 q126 q1047) hyx_X2_product rfl hR (by omega) (by decide) rfl rfl (by simp only [List.map_cons, List.map_nil, List.sum_cons, List.sum_nil, rv_cat, cat_int, cat_long]; decide) (fun v51 => ?_)
        refine gx_callIV (As := [.int (iI d39), rv g a1, rv g v51]) (rest := [rv g v44]) C E dX2_sum_54 (mx15_init (cx_l X) g v44 d39 a1 v51) (lw_meth q1098) q157 q1096 q1097 rfl hyx_X15_init hR (by omega) (by decide) rfl rfl (by simp only [List.map_cons, List.map_nil, List.sum_cons, List.sum_nil, rv_cat, cat_int, cat_long]; decide) ?_
        refine gx_astore_n (L' := [(1, rv g v44), (2, .int (iI d39)), (0, rv g a0)]) C dX2_sum_57 (by decide) (by simp [List.filter, rv_cat, cat_int, cat_long, fin4_3]) ?_
        refine gj_goto (tgt := 5) C dX2_sum_58 (by decide) ?_
        exact gj_to [2, 0] (hb5 (v44)) rfl
      · refine gj_if_eq (tgt := 37) C dX2_sum_29 (by decide) (fun h29 => ?_) (fun h29 => ?_)
        · refine gj_bipush C dX2_sum_37 rfl ?_
          exact (by rw [if_pos h29] at hJ; exact hJ)
        · refine gj_bipush C dX2_sum_32 rfl ?_
          refine gj_goto (tgt := 39) C dX2_sum_34 (by decide) ?_
          exact (by rw [if_neg h29] at hJ; exact hJ)
    unfold x2_sum_b5
    refine gx_aload_n C dX2_sum_5 0 rfl ?_
    refine gj_bipush C dX2_sum_6 rfl ?_
    refine gx_callVI (t0 := 2) (As := [.int (iI 43)]) (rest := []) C E rfl dX2_sum_8 (mx2_isSign (cx_l X) g a0 43) (lw_V q1053 q1055 qs24 q126 q1056) hyx_X2_isSign rfl hR (by omega) (by decide) rfl rfl (Nat.zero_le _) (fun v8 => ?_)
    refine gj_if_ne (tgt := 23) C dX2_sum_11 (by decide) (fun h11 => gj_neg h11 ?_) (fun h11 => gj_pos h11 ?_)
    · exact gj_to [0, 1] (J23 a1) rfl
    · refine gx_aload_n C dX2_sum_14 0 rfl ?_
      refine gj_bipush C dX2_sum_15 rfl ?_
      refine gx_callVI (t0 := 2) (As := [.int (iI 45)]) (rest := []) C E rfl dX2_sum_17 (mx2_isSign (cx_l X) g a0 45) (lw_V q1053 q1055 qs24 q126 q1056) hyx_X2_isSign rfl hR (by omega) (by decide) rfl rfl (Nat.zero_le _) (fun v17 => ?_)
      refine gj_if_eq (tgt := 61) C dX2_sum_20 (by decide) (fun h20 => gj_pos h20 ?_) (fun h20 => gj_neg h20 ?_)
      · refine gx_aload_n C dX2_sum_61 1 rfl ?_
        exact gy_aret C hQ hr (Or.inl ⟨_, rfl⟩) dX2_sum_62
      · exact gj_to [0, 1] (J23 a1) rfl
  unfold x2_sum
  refine gx_aload_n C dX2_sum_0 0 rfl ?_
  refine gy_callVR (t0 := 2) (As := []) (rest := []) C E hX hQ rfl dX2_sum_1 (mx2_product (cx_l X) g hkT hTP a0) (lw_V q1044 q1046 qs22 q126 q1047) hyx_X2_product rfl hR (by omega) (by decide) rfl rfl (Nat.zero_le _) (fun v1 => ?_)
  refine gx_astore_n (L' := [(1, rv g v1), (0, rv g a0)]) C dX2_sum_4 (by decide) (by simp [List.filter, rv_cat, cat_int, cat_long, fin4_3]) ?_
  exact gj_to [1, 0] (J5 a0 v1) rfl
def x2_test_j35 (tp : Option Nat → XT Hp (Option Nat)) (a0 a1 : Option Nat) (s0 : Int) : XT Hp (Option Nat) :=
  pite (w32 s0 = 32) (
    xret a1) (
    pbnd (xrecv a0 2) fun _ =>
    pbnd (x2_next a0) fun _ =>
    pbnd (xnew 13) fun v48 =>
    pbnd (xrecv a0 2) fun _ =>
    xbnd (x2_sum tp a0) fun v55 =>
    pbnd (xnn v48) fun _ =>
    pbnd (x15_init v48 s0 a1 v55) fun _ =>
    xret v48)
def x2_test (tp : Option Nat → XT Hp (Option Nat)) (a0 : Option Nat) : XT Hp (Option Nat) :=
  pbnd (xrecv a0 2) fun _ =>
  xbnd (x2_sum tp a0) fun v1 =>
  pbnd (xrecv a0 2) fun _ =>
  pbnd (x2_isSign a0 60) fun v8 =>
  pite (w32 v8 = 0) (
    pbnd (xrecv a0 2) fun _ =>
    pbnd (x2_isSign a0 61) fun v22 =>
    pite (w32 v22 = 0) (
      x2_test_j35 tp a0 v1 32) (
      x2_test_j35 tp a0 v1 61)) (
    x2_test_j35 tp a0 v1 60)
set_option maxHeartbeats 4000000 in
set_option maxRecDepth 100000 in
theorem mx2_test (l : Launch) (g : XG) {kT : Nat} (hkT : 40 ≤ kT) {tp : Option Nat → XT Hp (Option Nat)} (hTP : ∀ (a0 : Option Nat), XMetX l g RX6 yX2_part cX2_part 5 (Option.some (Jvm.ClassFile.FieldType.object "BorrowedLives$Expression")) (kT) [rv g a0] (tp a0) (rvR g)) (a0 : Option Nat) : XMetX l g RX6 yX2_test cX2_test 3 (Option.some (Jvm.ClassFile.FieldType.object "BorrowedLives$Expression")) (kT + 3) [rv g a0] (x2_test tp a0) (rvR g) := by
  refine gy_start (by decide +kernel) (by have e := lg_sl_len [rv g a0]; simp only [List.map_cons, List.map_nil, List.sum_cons, List.sum_nil, rv_cat, cat_int, cat_long] at e; omega) (fun X Q σ0 hl C E hQ hR hr hX => ?_)
  subst hl
  rw [show lv_args 0 [rv g a0] = [(0, rv g a0)] from by simp [lv_args, rv_cat, cat_int, cat_long]]
  show GJ X 3 (xWo g σ0 (cx_s X).heap) Q (x2_test tp a0) 0 [(0, rv g a0)] []
  have J35 : ∀ (a0 a1 : Option Nat) (s0 : Int), GJ X 3 (xWo g σ0 (cx_s X).heap) Q (x2_test_j35 tp a0 a1 s0) 35 [(0, rv g a0), (1, rv g a1)] [.int (iI s0)] := by
    intro a0 a1 s0
    unfold x2_test_j35
    refine gj_istore_n (L' := [(2, .int (iI s0)), (0, rv g a0), (1, rv g a1)]) C dX2_test_35 (by decide) (by simp [List.filter, rv_cat, cat_int, cat_long, fin4_3]) ?_
    refine gj_iload_n C dX2_test_36 0 rfl ?_
    refine gj_bipush C dX2_test_37 rfl ?_
    refine gj_icmp_ne (tgt := 44) (b' := 32) C dX2_test_39 (by decide) rfl (by decide) (fun h39 => gj_neg h39 ?_) (fun h39 => gj_pos h39 ?_)
    · refine gx_aload_n C dX2_test_44 1 rfl ?_
      refine gx_callVV (t0 := 2) (As := []) (rest := []) C E rfl dX2_test_45 (mx2_next (cx_l X) g a0) (lw_V q470 q472 qs1 q126 q473) hyx_X2_next rfl hR (by omega) (by decide) rfl rfl (Nat.zero_le _) ?_
      refine gx_new (t0 := 13) C E dX2_test_48 rfl q1094 q1095 q157 (fun v48 => ?_)
      refine gx_dup C dX2_test_51 ?_
      refine gj_iload_n C dX2_test_52 0 rfl ?_
      refine gx_aload_n C dX2_test_53 2 rfl ?_
      refine gx_aload_n C dX2_test_54 1 rfl ?_
      refine gy_callVR (t0 := 2) (As := []) (rest := [rv g a1, .int (iI s0), rv g v48, rv g v48]) C E hX hQ rfl dX2_test_55 (mx2_sum (cx_l X) g hkT hTP a0) (lw_V q1040 q1042 qs21 q126 q1043) hyx_X2_sum rfl hR (by omega) (by decide) rfl rfl (by simp only [List.map_cons, List.map_nil, List.sum_cons, List.sum_nil, rv_cat, cat_int, cat_long]; decide) (fun v55 => ?_)
      refine gx_callIV (As := [.int (iI s0), rv g a1, rv g v55]) (rest := [rv g v48]) C E dX2_test_58 (mx15_init (cx_l X) g v48 s0 a1 v55) (lw_meth q1098) q157 q1096 q1097 rfl hyx_X15_init hR (by omega) (by decide) rfl rfl (by simp only [List.map_cons, List.map_nil, List.sum_cons, List.sum_nil, rv_cat, cat_int, cat_long]; decide) ?_
      exact gy_aret C hQ hr (Or.inl ⟨_, rfl⟩) dX2_test_61
    · refine gx_aload_n C dX2_test_42 2 rfl ?_
      exact gy_aret C hQ hr (Or.inl ⟨_, rfl⟩) dX2_test_43
  unfold x2_test
  refine gx_aload_n C dX2_test_0 0 rfl ?_
  refine gy_callVR (t0 := 2) (As := []) (rest := []) C E hX hQ rfl dX2_test_1 (mx2_sum (cx_l X) g hkT hTP a0) (lw_V q1040 q1042 qs21 q126 q1043) hyx_X2_sum rfl hR (by omega) (by decide) rfl rfl (Nat.zero_le _) (fun v1 => ?_)
  refine gx_astore_n (L' := [(1, rv g v1), (0, rv g a0)]) C dX2_test_4 (by decide) (by simp [List.filter, rv_cat, cat_int, cat_long, fin4_3]) ?_
  refine gx_aload_n C dX2_test_5 1 rfl ?_
  refine gj_bipush C dX2_test_6 rfl ?_
  refine gx_callVI (t0 := 2) (As := [.int (iI 60)]) (rest := []) C E rfl dX2_test_8 (mx2_isSign (cx_l X) g a0 60) (lw_V q1053 q1055 qs24 q126 q1056) hyx_X2_isSign rfl hR (by omega) (by decide) rfl rfl (Nat.zero_le _) (fun v8 => ?_)
  refine gj_if_eq (tgt := 19) C dX2_test_11 (by decide) (fun h11 => gj_pos h11 ?_) (fun h11 => gj_neg h11 ?_)
  · refine gx_aload_n C dX2_test_19 1 rfl ?_
    refine gj_bipush C dX2_test_20 rfl ?_
    refine gx_callVI (t0 := 2) (As := [.int (iI 61)]) (rest := []) C E rfl dX2_test_22 (mx2_isSign (cx_l X) g a0 61) (lw_V q1053 q1055 qs24 q126 q1056) hyx_X2_isSign rfl hR (by omega) (by decide) rfl rfl (Nat.zero_le _) (fun v22 => ?_)
    refine gj_if_eq (tgt := 33) C dX2_test_25 (by decide) (fun h25 => gj_pos h25 ?_) (fun h25 => gj_neg h25 ?_)
    · refine gj_bipush C dX2_test_33 rfl ?_
      exact gj_to [1, 0] (J35 a0 v1 32) rfl
    · refine gj_bipush C dX2_test_28 rfl ?_
      refine gj_goto (tgt := 35) C dX2_test_30 (by decide) ?_
      exact gj_to [1, 0] (J35 a0 v1 61) rfl
  · refine gj_bipush C dX2_test_14 rfl ?_
    refine gj_goto (tgt := 35) C dX2_test_16 (by decide) ?_
    exact gj_to [1, 0] (J35 a0 v1 60) rfl
def x2_expression_b5 (tp : Option Nat → XT Hp (Option Nat)) (a0 : Option Nat) (a1 : Option Nat) (bk5 : (Option Nat) → XT Hp (Option Nat)) : XT Hp (Option Nat) :=
  pbnd (xrecv a0 2) fun _ =>
  pbnd (x2_which a0 (some (CB + 10))) fun v9 =>
  pite (w32 v9 < 0) (
    xret a1) (
    pbnd (xrecv a0 2) fun _ =>
    pbnd (x2_next a0) fun _ =>
    pbnd (xnew 13) fun v23 =>
    plet (if w32 v9 = 0 then 38 else 124) fun d38 =>
    pbnd (xrecv a0 2) fun _ =>
    xbnd (x2_test tp a0) fun v40 =>
    pbnd (xnn v23) fun _ =>
    pbnd (x15_init v23 d38 a1 v40) fun _ =>
    bk5 (v23))
def x2_expression_l5 (tp : Option Nat → XT Hp (Option Nat)) (a0 a1 : Option Nat) : XT Hp (Option Nat) :=
  ploop (fun (s : (Option Nat)) bk5 => x2_expression_b5 tp a0 s bk5) (a1)
def x2_expression (tp : Option Nat → XT Hp (Option Nat)) (a0 : Option Nat) : XT Hp (Option Nat) :=
  pbnd (xrecv a0 2) fun _ =>
  xbnd (x2_test tp a0) fun v1 =>
  x2_expression_l5 tp a0 v1
set_option maxHeartbeats 4000000 in
set_option maxRecDepth 100000 in
theorem mx2_expression (l : Launch) (g : XG) {kT : Nat} (hkT : 40 ≤ kT) {tp : Option Nat → XT Hp (Option Nat)} (hTP : ∀ (a0 : Option Nat), XMetX l g RX6 yX2_part cX2_part 5 (Option.some (Jvm.ClassFile.FieldType.object "BorrowedLives$Expression")) (kT) [rv g a0] (tp a0) (rvR g)) (a0 : Option Nat) : XMetX l g RX6 yX2_expression cX2_expression 3 (Option.some (Jvm.ClassFile.FieldType.object "BorrowedLives$Expression")) (kT + 4) [rv g a0] (x2_expression tp a0) (rvR g) := by
  refine gy_start (by decide +kernel) (by have e := lg_sl_len [rv g a0]; simp only [List.map_cons, List.map_nil, List.sum_cons, List.sum_nil, rv_cat, cat_int, cat_long] at e; omega) (fun X Q σ0 hl C E hQ hR hr hX => ?_)
  subst hl
  rw [show lv_args 0 [rv g a0] = [(0, rv g a0)] from by simp [lv_args, rv_cat, cat_int, cat_long]]
  show GJ X 3 (xWo g σ0 (cx_s X).heap) Q (x2_expression tp a0) 0 [(0, rv g a0)] []
  have J5 : ∀ (a0 a1 : Option Nat), GJ X 3 (xWo g σ0 (cx_s X).heap) Q (x2_expression_l5 tp a0 a1) 5 [(0, rv g a0), (1, rv g a1)] [] := by
    intro a0 a1
    unfold x2_expression_l5
    refine gj_loop (fun (s : (Option Nat)) => [(0, rv g a0), (1, rv g s)]) (a1) (fun bk5 hb5 s => ?_)
    obtain ⟨a1, rfl⟩ : ∃ z, z = s := ⟨s, rfl⟩
    show GJ X 3 (xWo g σ0 (cx_s X).heap) Q (x2_expression_b5 tp a0 a1 bk5) 5 [(0, rv g a0), (1, rv g a1)] []
    unfold x2_expression_b5
    refine gx_aload_n C dX2_expression_5 0 rfl ?_
    refine gx_ldcwS C E 10 (by decide) rfl dX2_expression_6 ?_
    refine gx_callVI (t0 := 2) (As := [rv g ((some (CB + 10)))]) (rest := []) C E rfl dX2_expression_9 (mx2_which (cx_l X) g a0 (some (CB + 10))) (lw_V q578 q580 qs3 q126 q581) hyx_X2_which rfl hR (by omega) (by decide) rfl rfl (Nat.zero_le _) (fun v9 => ?_)
    refine gj_istore_n (L' := [(2, .int (iI v9)), (0, rv g a0), (1, rv g a1)]) C dX2_expression_12 (by decide) (by simp [List.filter, rv_cat, cat_int, cat_long, fin4_3]) ?_
    refine gj_iload_n C dX2_expression_13 0 rfl ?_
    refine gj_if_ge (tgt := 19) C dX2_expression_14 (by decide) (fun h14 => gj_neg h14 ?_) (fun h14 => gj_pos h14 ?_)
    · refine gx_aload_n C dX2_expression_19 1 rfl ?_
      refine gx_callVV (t0 := 2) (As := []) (rest := []) C E rfl dX2_expression_20 (mx2_next (cx_l X) g a0) (lw_V q470 q472 qs1 q126 q473) hyx_X2_next rfl hR (by omega) (by decide) rfl rfl (Nat.zero_le _) ?_
      refine gx_new (t0 := 13) C E dX2_expression_23 rfl q1094 q1095 q157 (fun v23 => ?_)
      refine gx_dup C dX2_expression_26 ?_
      refine gj_iload_n C dX2_expression_27 0 rfl ?_
      refine gj_dia (J := 38) (L := [(2, .int (iI v9)), (0, rv g a0), (1, rv g a1)]) (st := [rv g v23, rv g v23]) (fun d38 => ?_) (fun t hJ => ?_)
      · skip
        refine gx_aload_n C dX2_expression_38 2 rfl ?_
        refine gx_aload_n C dX2_expression_39 1 rfl ?_
        refine gy_callVR (t0 := 2) (As := []) (rest := [rv g a1, .int (iI d38), rv g v23, rv g v23]) C E hX hQ rfl dX2_expression_40 (mx2_test (cx_l X) g hkT hTP a0) (lw_V q1036 q1038 qs20 q126 q1039) hyx_X2_test rfl hR (by omega) (by decide) rfl rfl (by simp only [List.map_cons, List.map_nil, List.sum_cons, List.sum_nil, rv_cat, cat_int, cat_long]; decide) (fun v40 => ?_)
        refine gx_callIV (As := [.int (iI d38), rv g a1, rv g v40]) (rest := [rv g v23]) C E dX2_expression_43 (mx15_init (cx_l X) g v23 d38 a1 v40) (lw_meth q1098) q157 q1096 q1097 rfl hyx_X15_init hR (by omega) (by decide) rfl rfl (by simp only [List.map_cons, List.map_nil, List.sum_cons, List.sum_nil, rv_cat, cat_int, cat_long]; decide) ?_
        refine gx_astore_n (L' := [(1, rv g v23), (2, .int (iI v9)), (0, rv g a0)]) C dX2_expression_46 (by decide) (by simp [List.filter, rv_cat, cat_int, cat_long, fin4_3]) ?_
        refine gj_goto (tgt := 5) C dX2_expression_47 (by decide) ?_
        exact gj_to [2, 0] (hb5 (v23)) rfl
      · refine gj_if_ne (tgt := 36) C dX2_expression_28 (by decide) (fun h28 => ?_) (fun h28 => ?_)
        · refine gj_bipush C dX2_expression_36 rfl ?_
          exact (by rw [if_neg h28] at hJ; exact hJ)
        · refine gj_bipush C dX2_expression_31 rfl ?_
          refine gj_goto (tgt := 38) C dX2_expression_33 (by decide) ?_
          exact (by rw [if_pos h28] at hJ; exact hJ)
    · refine gx_aload_n C dX2_expression_17 2 rfl ?_
      exact gy_aret C hQ hr (Or.inl ⟨_, rfl⟩) dX2_expression_18
  unfold x2_expression
  refine gx_aload_n C dX2_expression_0 0 rfl ?_
  refine gy_callVR (t0 := 2) (As := []) (rest := []) C E hX hQ rfl dX2_expression_1 (mx2_test (cx_l X) g hkT hTP a0) (lw_V q1036 q1038 qs20 q126 q1039) hyx_X2_test rfl hR (by omega) (by decide) rfl rfl (Nat.zero_le _) (fun v1 => ?_)
  refine gx_astore_n (L' := [(1, rv g v1), (0, rv g a0)]) C dX2_expression_4 (by decide) (by simp [List.filter, rv_cat, cat_int, cat_long, fin4_3]) ?_
  exact gj_to [1, 0] (J5 a0 v1) rfl
def x2_part_s_j157 (tp : Option Nat → XT Hp (Option Nat)) (a0 a4 : Option Nat) : XT Hp (Option Nat) :=
  pbnd (xgI a0 2 6) fun v159 =>
  pbnd (xpI a0 2 6 (w32 (v159 - 1))) fun _ =>
  xret a4
def x2_part_s_j145 (tp : Option Nat → XT Hp (Option Nat)) (a0 : Option Nat) (a3 : Int) (s0 : Option Nat) : XT Hp (Option Nat) :=
  pite (w32 a3 = 0) (
    x2_part_s_j157 tp a0 s0) (
    pbnd (xrecv a0 2) fun _ =>
    xbnd (x2_need_2 a0 41) fun _ =>
    x2_part_s_j157 tp a0 s0)
def x2_part_s_j58 (tp : Option Nat → XT Hp (Option Nat)) (a0 : Option Nat) (a1 a2 a3 : Int) : XT Hp (Option Nat) :=
  pbnd (xgI a0 2 6) fun v59 =>
  pite (w32 v59 = 5) (
    pbnd (xrecv a0 2) fun _ =>
    pbnd (x2_wrong a0 5) fun v68 =>
    xthrow v68) (
    pbnd (xgI a0 2 3) fun v73 =>
    pite (w32 v73 = 2) (
      pbnd (xnew 10) fun v80 =>
      pbnd (xrecv a0 2) fun _ =>
      xbnd (x2_number_2 a0 0 9999) fun v89 =>
      pbnd (xnn v80) fun _ =>
      pbnd (x12_init v80 v89) fun _ =>
      xret v80) (
      pbnd (xrecv a0 2) fun _ =>
      pbnd (x2_next a0) fun _ =>
      pite (w32 a1 < 0) (
        pbnd (xgI a0 2 6) fun v115 =>
        pbnd (xpI a0 2 6 (w32 (v115 + 1))) fun _ =>
        pite (w32 a2 = 0) (
          pbnd (xrecv a0 2) fun _ =>
          xbnd (x2_expression tp a0) fun v142 =>
          x2_part_s_j145 tp a0 a3 v142) (
          pbnd (xnew 12) fun v127 =>
          pbnd (xrecv a0 2) fun _ =>
          xbnd (tp a0) fun v132 =>
          pbnd (xnn v127) fun _ =>
          pbnd (x14_init v127 v132) fun _ =>
          x2_part_s_j145 tp a0 a3 v127)) (
        pbnd (xnew 11) fun v104 =>
        pbnd (xnn v104) fun _ =>
        pbnd (x13_init v104 a1) fun _ =>
        xret v104)))
def x2_part_s (tp : Option Nat → XT Hp (Option Nat)) (a0 : Option Nat) : XT Hp (Option Nat) :=
  pbnd (xgR a0 2 8) fun v2 =>
  pbnd (xrecv a0 2) fun _ =>
  pbnd (x2_which a0 v2) fun v5 =>
  pbnd (xrecv a0 2) fun _ =>
  pbnd (x2_which a0 (some (CB + 9))) fun v13 =>
  plet (if w32 v13 < 0 then 0 else 1) fun d24 =>
  pbnd (xrecv a0 2) fun _ =>
  pbnd (x2_isSign a0 40) fun v28 =>
  pite (w32 v5 < 0) (
    pite (w32 d24 = 0) (
      pite (w32 v28 = 0) (
        pbnd (xgI a0 2 3) fun v45 =>
        pite (w32 v45 = 2) (
          x2_part_s_j58 tp a0 v5 d24 v28) (
          pbnd (xrecv a0 2) fun _ =>
          pbnd (x2_wrong a0 1) fun v54 =>
          xthrow v54)) (
        x2_part_s_j58 tp a0 v5 d24 v28)) (
      x2_part_s_j58 tp a0 v5 d24 v28)) (
    x2_part_s_j58 tp a0 v5 d24 v28)
set_option maxHeartbeats 4000000 in
set_option maxRecDepth 100000 in
theorem mx2_part_s (l : Launch) (g : XG) {kT : Nat} (hkT : 40 ≤ kT) {tp : Option Nat → XT Hp (Option Nat)} (hTP : ∀ (a0 : Option Nat), XMetX l g RX6 yX2_part cX2_part 5 (Option.some (Jvm.ClassFile.FieldType.object "BorrowedLives$Expression")) (kT) [rv g a0] (tp a0) (rvR g)) (a0 : Option Nat) : XMetX l g RX6 yX2_part cX2_part 5 (Option.some (Jvm.ClassFile.FieldType.object "BorrowedLives$Expression")) (kT + 5) [rv g a0] (x2_part_s tp a0) (rvR g) := by
  refine gy_start (by decide +kernel) (by have e := lg_sl_len [rv g a0]; simp only [List.map_cons, List.map_nil, List.sum_cons, List.sum_nil, rv_cat, cat_int, cat_long] at e; omega) (fun X Q σ0 hl C E hQ hR hr hX => ?_)
  subst hl
  rw [show lv_args 0 [rv g a0] = [(0, rv g a0)] from by simp [lv_args, rv_cat, cat_int, cat_long]]
  show GJ X 5 (xWo g σ0 (cx_s X).heap) Q (x2_part_s tp a0) 0 [(0, rv g a0)] []
  have J157 : ∀ (a0 a4 : Option Nat), GJ X 5 (xWo g σ0 (cx_s X).heap) Q (x2_part_s_j157 tp a0 a4) 157 [(0, rv g a0), (4, rv g a4)] [] := by
    intro a0 a4
    unfold x2_part_s_j157
    refine gx_aload_n C dX2_part_157 0 rfl ?_
    refine gx_dup C dX2_part_158 ?_
    refine gx_gI (O := "BorrowedLives$Reader") (nm := "within") (ds := "I") (fin := false) C E dX2_part_159 (by decide +kernel) (Or.inl q194) (fun _ h => h) (fun v159 => ?_)
    refine gj_iconst C dX2_part_162 ?_
    refine gj_isub C dX2_part_163 ?_
    refine gj_nrmI ?_
    refine gx_pI (O := "BorrowedLives$Reader") (nm := "within") (ds := "I") (fin := false) (ty := .int) C E dX2_part_164 (by decide +kernel) (Or.inl q194) (fun _ h => h) (fun h => by cases h) (by decide +kernel) (inty_int _) ?_
    refine gx_aload C dX2_part_167 1 rfl ?_
    exact gy_aret C hQ hr (Or.inl ⟨_, rfl⟩) dX2_part_169
  have J145 : ∀ (a0 : Option Nat) (a3 : Int) (s0 : Option Nat), GJ X 5 (xWo g σ0 (cx_s X).heap) Q (x2_part_s_j145 tp a0 a3 s0) 145 [(0, rv g a0), (3, .int (iI a3))] [rv g s0] := by
    intro a0 a3 s0
    unfold x2_part_s_j145
    refine gx_astore (L' := [(4, _), (0, _), (3, _)]) C dX2_part_145 (by decide) rfl ?_
    refine gj_iload_n C dX2_part_147 2 rfl ?_
    refine gj_if_eq (tgt := 157) C dX2_part_148 (by decide) (fun h148 => gj_pos h148 ?_) (fun h148 => gj_neg h148 ?_)
    · exact gj_to [1, 0] (J157 a0 s0) rfl
    · refine gx_aload_n C dX2_part_151 1 rfl ?_
      refine gj_bipush C dX2_part_152 rfl ?_
      refine gy_callVV (t0 := 2) (As := [.int (iI 41)]) (rest := []) C E hX hQ rfl dX2_part_154 (mx2_need_2 (cx_l X) g a0 41) (lw_V q1090 q1092 qs25 q126 q1093) hyx_X2_need_2 rfl hR (by omega) (by decide) rfl rfl (Nat.zero_le _) ?_
      exact gj_to [1, 0] (J157 a0 s0) rfl
  have J58 : ∀ (a0 : Option Nat) (a1 a2 a3 : Int), GJ X 5 (xWo g σ0 (cx_s X).heap) Q (x2_part_s_j58 tp a0 a1 a2 a3) 58 [(0, rv g a0), (1, .int (iI a1)), (2, .int (iI a2)), (3, .int (iI a3))] [] := by
    intro a0 a1 a2 a3
    unfold x2_part_s_j58
    refine gx_aload_n C dX2_part_58 0 rfl ?_
    refine gx_gI (O := "BorrowedLives$Reader") (nm := "within") (ds := "I") (fin := false) C E dX2_part_59 (by decide +kernel) (Or.inl q194) (fun _ h => h) (fun v59 => ?_)
    refine gj_iconst C dX2_part_62 ?_
    refine gj_icmp_ne (tgt := 72) (b' := 5) C dX2_part_63 (by decide) rfl (by decide) (fun h63 => gj_neg h63 ?_) (fun h63 => gj_pos h63 ?_)
    · refine gx_aload_n C dX2_part_72 0 rfl ?_
      refine gx_gI (O := "BorrowedLives$Reader") (nm := "kind") (ds := "I") (fin := false) C E dX2_part_73 (by decide +kernel) (Or.inl q191) (fun _ h => h) (fun v73 => ?_)
      refine gj_iconst C dX2_part_76 ?_
      refine gj_icmp_ne (tgt := 96) (b' := 2) C dX2_part_77 (by decide) rfl (by decide) (fun h77 => gj_neg h77 ?_) (fun h77 => gj_pos h77 ?_)
      · refine gx_aload_n C dX2_part_96 0 rfl ?_
        refine gx_callVV (t0 := 2) (As := []) (rest := []) C E rfl dX2_part_97 (mx2_next (cx_l X) g a0) (lw_V q470 q472 qs1 q126 q473) hyx_X2_next rfl hR (by omega) (by decide) rfl rfl (Nat.zero_le _) ?_
        refine gj_iload_n C dX2_part_100 1 rfl ?_
        refine gj_if_lt (tgt := 113) C dX2_part_101 (by decide) (fun h101 => gj_pos h101 ?_) (fun h101 => gj_neg h101 ?_)
        · refine gx_aload_n C dX2_part_113 0 rfl ?_
          refine gx_dup C dX2_part_114 ?_
          refine gx_gI (O := "BorrowedLives$Reader") (nm := "within") (ds := "I") (fin := false) C E dX2_part_115 (by decide +kernel) (Or.inl q194) (fun _ h => h) (fun v115 => ?_)
          refine gj_iconst C dX2_part_118 ?_
          refine gj_iadd C dX2_part_119 ?_
          refine gj_nrmI ?_
          refine gx_pI (O := "BorrowedLives$Reader") (nm := "within") (ds := "I") (fin := false) (ty := .int) C E dX2_part_120 (by decide +kernel) (Or.inl q194) (fun _ h => h) (fun h => by cases h) (by decide +kernel) (inty_int _) ?_
          refine gj_iload_n C dX2_part_123 2 rfl ?_
          refine gj_if_eq (tgt := 141) C dX2_part_124 (by decide) (fun h124 => gj_pos h124 ?_) (fun h124 => gj_neg h124 ?_)
          · refine gx_aload_n C dX2_part_141 0 rfl ?_
            refine gy_callVR (t0 := 2) (As := []) (rest := []) C E hX hQ rfl dX2_part_142 (mx2_expression (cx_l X) g hkT hTP a0) (lw_V q1032 q1034 qs19 q126 q1035) hyx_X2_expression rfl hR (by omega) (by decide) rfl rfl (Nat.zero_le _) (fun v142 => ?_)
            exact gj_to [0, 3] (J145 a0 a3 v142) rfl
          · refine gx_new (t0 := 12) C E dX2_part_127 rfl q1080 q1081 q156 (fun v127 => ?_)
            refine gx_dup C dX2_part_130 ?_
            refine gx_aload_n C dX2_part_131 0 rfl ?_
            refine gy_callVR (t0 := 2) (As := []) (rest := [rv g v127, rv g v127]) C E hX hQ rfl dX2_part_132 (hTP a0) (lw_V q1048 q1050 qs23 q126 q1051) hyx_X2_part rfl hR (by omega) (by decide) rfl rfl (by simp only [List.map_cons, List.map_nil, List.sum_cons, List.sum_nil, rv_cat, cat_int, cat_long]; decide) (fun v132 => ?_)
            refine gx_callIV (As := [rv g v132]) (rest := [rv g v127]) C E dX2_part_135 (mx14_init (cx_l X) g v127 v132) (lw_meth q1084) q156 q1082 q1083 rfl hyx_X14_init hR (by omega) (by decide) rfl rfl (by simp only [List.map_cons, List.map_nil, List.sum_cons, List.sum_nil, rv_cat, cat_int, cat_long]; decide) ?_
            refine gj_goto (tgt := 145) C dX2_part_138 (by decide) ?_
            exact gj_to [0, 3] (J145 a0 a3 v127) rfl
        · refine gx_new (t0 := 11) C E dX2_part_104 rfl q1070 q1071 q155 (fun v104 => ?_)
          refine gx_dup C dX2_part_107 ?_
          refine gj_iload_n C dX2_part_108 1 rfl ?_
          refine gx_callIV (As := [.int (iI a1)]) (rest := [rv g v104]) C E dX2_part_109 (mx13_init (cx_l X) g v104 a1) (lw_meth q1074) q155 q1072 q1073 rfl hyx_X13_init hR (by omega) (by decide) rfl rfl (by simp only [List.map_cons, List.map_nil, List.sum_cons, List.sum_nil, rv_cat, cat_int, cat_long]; decide) ?_
          exact gy_aret C hQ hr (Or.inl ⟨_, rfl⟩) dX2_part_112
      · refine gx_new (t0 := 10) C E dX2_part_80 rfl q1057 q1058 q154 (fun v80 => ?_)
        refine gx_dup C dX2_part_83 ?_
        refine gx_aload_n C dX2_part_84 0 rfl ?_
        refine gj_iconst C dX2_part_85 ?_
        refine gj_sipush C dX2_part_86 rfl ?_
        refine gy_callVI (t0 := 2) (As := [.int (iI 0), .int (iI 9999)]) (rest := [rv g v80, rv g v80]) C E hX hQ rfl dX2_part_89 (mx2_number_2 (cx_l X) g a0 0 9999) (lw_V q950 q952 qs13 q126 q953) hyx_X2_number_2 rfl hR (by omega) (by decide) rfl rfl (by simp only [List.map_cons, List.map_nil, List.sum_cons, List.sum_nil, rv_cat, cat_int, cat_long]; decide) (fun v89 => ?_)
        refine gx_callIV (As := [.int (iI v89)]) (rest := [rv g v80]) C E dX2_part_92 (mx12_init (cx_l X) g v80 v89) (lw_meth q1061) q154 q1059 q1060 rfl hyx_X12_init hR (by omega) (by decide) rfl rfl (by simp only [List.map_cons, List.map_nil, List.sum_cons, List.sum_nil, rv_cat, cat_int, cat_long]; decide) ?_
        exact gy_aret C hQ hr (Or.inl ⟨_, rfl⟩) dX2_part_95
    · refine gx_aload_n C dX2_part_66 0 rfl ?_
      refine gj_iconst C dX2_part_67 ?_
      refine gx_callVR (t0 := 2) (As := [.int (iI 5)]) (rest := []) C E rfl dX2_part_68 (mx2_wrong (cx_l X) g a0 5) (lw_V q602 q604 qs4 q126 q605) hyx_X2_wrong rfl hR (by omega) (by decide) rfl rfl (Nat.zero_le _) (fun v68 => ?_)
      exact gy_athrow C E hX hQ dX2_part_71
  unfold x2_part_s
  refine gx_aload_n C dX2_part_0 0 rfl ?_
  refine gx_aload_n C dX2_part_1 0 rfl ?_
  refine gx_gR (O := "BorrowedLives$Reader") (nm := "factWords") (ds := "Ljava/lang/String;") (fin := false) C E dX2_part_2 (by decide +kernel) (Or.inl q196) (fun _ h => h) (fun v2 => ?_)
  refine gx_callVI (t0 := 2) (As := [rv g v2]) (rest := []) C E rfl dX2_part_5 (mx2_which (cx_l X) g a0 v2) (lw_V q578 q580 qs3 q126 q581) hyx_X2_which rfl hR (by omega) (by decide) rfl rfl (Nat.zero_le _) (fun v5 => ?_)
  refine gj_istore_n (L' := [(1, .int (iI v5)), (0, rv g a0)]) C dX2_part_8 (by decide) (by simp [List.filter, rv_cat, cat_int, cat_long, fin4_3]) ?_
  refine gx_aload_n C dX2_part_9 1 rfl ?_
  refine gx_ldcwS C E 9 (by decide) rfl dX2_part_10 ?_
  refine gx_callVI (t0 := 2) (As := [rv g ((some (CB + 9)))]) (rest := []) C E rfl dX2_part_13 (mx2_which (cx_l X) g a0 (some (CB + 9))) (lw_V q578 q580 qs3 q126 q581) hyx_X2_which rfl hR (by omega) (by decide) rfl rfl (Nat.zero_le _) (fun v13 => ?_)
  refine gj_dia (J := 24) (L := [(1, .int (iI v5)), (0, rv g a0)]) (st := []) (fun d24 => ?_) (fun t hJ => ?_)
  · skip
    refine gj_istore_n (L' := [(2, _), (1, _), (0, _)]) C dX2_part_24 (by decide) rfl ?_
    refine gx_aload_n C dX2_part_25 2 rfl ?_
    refine gj_bipush C dX2_part_26 rfl ?_
    refine gx_callVI (t0 := 2) (As := [.int (iI 40)]) (rest := []) C E rfl dX2_part_28 (mx2_isSign (cx_l X) g a0 40) (lw_V q1053 q1055 qs24 q126 q1056) hyx_X2_isSign rfl hR (by omega) (by decide) rfl rfl (Nat.zero_le _) (fun v28 => ?_)
    refine gj_istore_n (L' := [(3, _), (2, _), (1, _), (0, _)]) C dX2_part_31 (by decide) rfl ?_
    refine gj_iload_n C dX2_part_32 2 rfl ?_
    refine gj_if_ge (tgt := 58) C dX2_part_33 (by decide) (fun h33 => gj_neg h33 ?_) (fun h33 => gj_pos h33 ?_)
    · exact gj_to [3, 2, 1, 0] (J58 a0 v5 d24 v28) rfl
    · refine gj_iload_n C dX2_part_36 1 rfl ?_
      refine gj_if_ne (tgt := 58) C dX2_part_37 (by decide) (fun h37 => gj_neg h37 ?_) (fun h37 => gj_pos h37 ?_)
      · exact gj_to [3, 2, 1, 0] (J58 a0 v5 d24 v28) rfl
      · refine gj_iload_n C dX2_part_40 0 rfl ?_
        refine gj_if_ne (tgt := 58) C dX2_part_41 (by decide) (fun h41 => gj_neg h41 ?_) (fun h41 => gj_pos h41 ?_)
        · exact gj_to [3, 2, 1, 0] (J58 a0 v5 d24 v28) rfl
        · refine gx_aload_n C dX2_part_44 3 rfl ?_
          refine gx_gI (O := "BorrowedLives$Reader") (nm := "kind") (ds := "I") (fin := false) C E dX2_part_45 (by decide +kernel) (Or.inl q191) (fun _ h => h) (fun v45 => ?_)
          refine gj_iconst C dX2_part_48 ?_
          refine gj_icmp_eq (tgt := 58) (b' := 2) C dX2_part_49 (by decide) rfl (by decide) (fun h49 => gj_pos h49 ?_) (fun h49 => gj_neg h49 ?_)
          · exact gj_to [3, 2, 1, 0] (J58 a0 v5 d24 v28) rfl
          · refine gx_aload_n C dX2_part_52 3 rfl ?_
            refine gj_iconst C dX2_part_53 ?_
            refine gx_callVR (t0 := 2) (As := [.int (iI 1)]) (rest := []) C E rfl dX2_part_54 (mx2_wrong (cx_l X) g a0 1) (lw_V q602 q604 qs4 q126 q605) hyx_X2_wrong rfl hR (by omega) (by decide) rfl rfl (Nat.zero_le _) (fun v54 => ?_)
            exact gy_athrow C E hX hQ dX2_part_57
  · refine gj_if_lt (tgt := 23) C dX2_part_16 (by decide) (fun h16 => ?_) (fun h16 => ?_)
    · refine gj_iconst C dX2_part_23 ?_
      exact (by rw [if_pos h16] at hJ; exact hJ)
    · refine gj_iconst C dX2_part_19 ?_
      refine gj_goto (tgt := 24) C dX2_part_20 (by decide) ?_
      exact (by rw [if_neg h16] at hJ; exact hJ)
def x2_part : Nat → Option Nat → XT Hp (Option Nat)
  | 0 => fun _ => pfail
  | n + 1 => x2_part_s (x2_part n)
theorem mx2_part (l : Launch) (g : XG) : ∀ (n : Nat), ∀ (a0 : Option Nat), XMetX l g RX6 yX2_part cX2_part 5 (Option.some (Jvm.ClassFile.FieldType.object "BorrowedLives$Expression")) (40 + 5 * n) [rv g a0] (x2_part n a0) (rvR g) := by
  intro n
  induction n with
  | zero => intro a0 Q σ h; exact h.elim
  | succ n ih => intro a0; exact mx2_part_s l g (by omega) ih a0
def x2_worked (a0 a1 : Option Nat) : XT Hp (Option Nat) :=
  pbnd (xpR a0 2 8 a1) fun _ =>
  pbnd (xrecv a0 2) fun _ =>
  xbnd (x2_expression (x2_part 20) a0) fun v6 =>
  xret v6
set_option maxHeartbeats 4000000 in
set_option maxRecDepth 100000 in
theorem mx2_worked (l : Launch) (g : XG) (a0 a1 : Option Nat) : XMetX l g RX6 yX2_worked cX2_worked 2 (Option.some (Jvm.ClassFile.FieldType.object "BorrowedLives$Expression")) (145) [rv g a0, rv g a1] (x2_worked a0 a1) (rvR g) := by
  refine gy_start (by decide +kernel) (by have e := lg_sl_len [rv g a0, rv g a1]; simp only [List.map_cons, List.map_nil, List.sum_cons, List.sum_nil, rv_cat, cat_int, cat_long] at e; omega) (fun X Q σ0 hl C E hQ hR hr hX => ?_)
  subst hl
  rw [show lv_args 0 [rv g a0, rv g a1] = [(0, rv g a0), (1, rv g a1)] from by simp [lv_args, rv_cat, cat_int, cat_long]]
  show GJ X 2 (xWo g σ0 (cx_s X).heap) Q (x2_worked a0 a1) 0 [(0, rv g a0), (1, rv g a1)] []
  unfold x2_worked
  refine gx_aload_n C dX2_worked_0 0 rfl ?_
  refine gx_aload_n C dX2_worked_1 1 rfl ?_
  refine gx_pR (O := "BorrowedLives$Reader") (nm := "factWords") (ds := "Ljava/lang/String;") (fin := false) (ty := (.object "java/lang/String")) C E dX2_worked_2 (by decide +kernel) (Or.inl q196) (fun _ h => h) (fun h => by cases h) (by decide +kernel) (by decide) ?_
  refine gx_aload_n C dX2_worked_5 0 rfl ?_
  refine gy_callVR (t0 := 2) (As := []) (rest := []) C E hX hQ rfl dX2_worked_6 (mx2_expression (cx_l X) g (by omega) (mx2_part (cx_l X) g 20) a0) (lw_V q1032 q1034 qs19 q126 q1035) hyx_X2_expression rfl hR (Nat.le_of_ble_eq_true rfl) (by decide) rfl rfl (Nat.zero_le _) (fun v6 => ?_)
  exact gy_aret C hQ hr (Or.inl ⟨_, rfl⟩) dX2_worked_9
def x2_line_j90 (a0 : Option Nat) : XT Hp Unit :=
  pbnd (xrecv a0 2) fun _ =>
  pbnd (x2_wrong a0 3) fun v92 =>
  xthrow v92
def x2_line (a0 : Option Nat) (a1 : Int) : XT Hp Unit :=
  pite (w32 a1 = 0) (
    pbnd (xrecv a0 2) fun _ =>
    xbnd (x2_comes a0) fun _ =>
    xret ()) (
    pite (w32 a1 = 1) (
      pbnd (xrecv a0 2) fun _ =>
      xbnd (x2_person a0) fun v48 =>
      pbnd (xrecv a0 2) fun _ =>
      pbnd (x2_next a0) fun _ =>
      pbnd (xrecv a0 2) fun _ =>
      xbnd (x2_person a0) fun v57 =>
      pite (w32 v48 = w32 v57) (
        x2_line_j90 a0) (
        pbnd (xgR a0 2 7) fun v67 =>
        pbnd (xgR v67 3 0) fun v70 =>
        pbnd (xrecv v70 26) fun _ =>
        pbnd (j2_get v70 v48) fun v74 =>
        pbnd (xcast v74 [6, 7, 8, 9]) fun _ =>
        pbnd (xgIs v74 [6, 7, 8, 9] 5) fun v80 =>
        pbnd (x1_isIn v80 v57) fun v84 =>
        pite (w32 v84 = 0) (
          pbnd (xrecv a0 2) fun _ =>
          pbnd (x2_next a0) fun _ =>
          pbnd (xgR a0 2 7) fun v101 =>
          pbnd (xgR v101 3 0) fun v104 =>
          pbnd (xrecv v104 26) fun _ =>
          pbnd (j2_get v104 v48) fun v108 =>
          pbnd (xcast v108 [6, 7, 8, 9]) fun _ =>
          pbnd (xgIs v108 [6, 7, 8, 9] 5) fun v115 =>
          pbnd (xpIs v108 [6, 7, 8, 9] 5 (zor v115 (zshl 1 v57))) fun _ =>
          pbnd (xgR a0 2 7) fun v126 =>
          pbnd (xgI v126 3 1) fun v130 =>
          pbnd (xpI v126 3 1 (w32 (v130 + 1))) fun _ =>
          xret ()) (
          x2_line_j90 a0))) (
      pite (w32 a1 = 2) (
        pbnd (xgR a0 2 7) fun v142 =>
        pbnd (xrecv a0 2) fun _ =>
        xbnd (x2_number_2 a0 0 999) fun v150 =>
        pbnd (xpI v142 3 2 v150) fun _ =>
        xret ()) (
        pite (w32 a1 = 3) (
          pbnd (xgR a0 2 7) fun v160 =>
          pbnd (xrecv a0 2) fun _ =>
          xbnd (x2_worked a0 (some (CB + 8))) fun v166 =>
          pbnd (xpR v160 3 3 v166) fun _ =>
          xret ()) (
          pite (w32 a1 = 4) (
            pbnd (xgR a0 2 7) fun v176 =>
            pbnd (xrecv a0 2) fun _ =>
            xbnd (x2_worked a0 (some (CB + 8))) fun v182 =>
            pbnd (xpR v176 3 4 v182) fun _ =>
            xret ()) (
            pite (w32 a1 = 5) (
              pbnd (xgR a0 2 7) fun v192 =>
              pbnd (xrecv a0 2) fun _ =>
              xbnd (x2_worked a0 (some (CB + 11))) fun v198 =>
              pbnd (xpR v192 3 5 v198) fun _ =>
              xret ()) (
              pbnd (xgR a0 2 7) fun v208 =>
              pbnd (xrecv a0 2) fun _ =>
              xbnd (x2_worked a0 (some (CB + 8))) fun v214 =>
              pbnd (xpR v208 3 6 v214) fun _ =>
              xret ()))))))
set_option maxHeartbeats 4000000 in
set_option maxRecDepth 100000 in
theorem mx2_line (l : Launch) (g : XG) (a0 : Option Nat) (a1 : Int) : XMetX l g RX6 yX2_line cX2_line 4 (Option.none : Option Jvm.ClassFile.FieldType) (146) [rv g a0, .int (iI a1)] (x2_line a0 a1) rvV := by
  refine gy_start (by decide +kernel) (by have e := lg_sl_len [rv g a0, .int (iI a1)]; simp only [List.map_cons, List.map_nil, List.sum_cons, List.sum_nil, rv_cat, cat_int, cat_long] at e; omega) (fun X Q σ0 hl C E hQ hR hr hX => ?_)
  subst hl
  rw [show lv_args 0 [rv g a0, .int (iI a1)] = [(0, rv g a0), (1, .int (iI a1))] from by simp [lv_args, rv_cat, cat_int, cat_long]]
  show GJ X 4 (xWo g σ0 (cx_s X).heap) Q (x2_line a0 a1) 0 [(0, rv g a0), (1, .int (iI a1))] []
  have J90 : ∀ (a0 : Option Nat), GJ X 4 (xWo g σ0 (cx_s X).heap) Q (x2_line_j90 a0) 90 [(0, rv g a0)] [] := by
    intro a0
    unfold x2_line_j90
    refine gx_aload_n C dX2_line_90 0 rfl ?_
    refine gj_iconst C dX2_line_91 ?_
    refine gx_callVR (t0 := 2) (As := [.int (iI 3)]) (rest := []) C E rfl dX2_line_92 (mx2_wrong (cx_l X) g a0 3) (lw_V q602 q604 qs4 q126 q605) hyx_X2_wrong rfl hR (Nat.le_of_ble_eq_true rfl) (by decide) rfl rfl (Nat.zero_le _) (fun v92 => ?_)
    exact gy_athrow C E hX hQ dX2_line_95
  unfold x2_line
  refine gj_iload_n C dX2_line_0 1 rfl ?_
  by_cases h1_0 : w32 a1 = 0
  · refine gj_pos h1_0 ?_
    refine gj_tin (tgt := 40) C 0 h1_0 dX2_line_1 (by decide) (by decide) rfl (by decide) ?_
    refine gx_aload_n C dX2_line_40 0 rfl ?_
    refine gy_callVV (t0 := 2) (As := []) (rest := []) C E hX hQ rfl dX2_line_41 (mx2_comes (cx_l X) g a0) (lw_V q684 q686 qs8 q126 q687) hyx_X2_comes rfl hR (Nat.le_of_ble_eq_true rfl) (by decide) rfl rfl (Nat.zero_le _) ?_
    refine gj_goto (tgt := 220) C dX2_line_44 (by decide) ?_
    exact gy_vret C hQ hr dX2_line_220
  · refine gj_neg h1_0 ?_
    by_cases h1_1 : w32 a1 = 1
    · refine gj_pos h1_1 ?_
      refine gj_tin (tgt := 47) C 1 h1_1 dX2_line_1 (by decide) (by decide) rfl (by decide) ?_
      refine gx_aload_n C dX2_line_47 0 rfl ?_
      refine gy_callVI (t0 := 2) (As := []) (rest := []) C E hX hQ rfl dX2_line_48 (mx2_person (cx_l X) g a0) (lw_V q1019 q1021 qs17 q126 q1022) hyx_X2_person rfl hR (Nat.le_of_ble_eq_true rfl) (by decide) rfl rfl (Nat.zero_le _) (fun v48 => ?_)
      refine gj_istore_n (L' := [(2, _), (0, _), (1, _)]) C dX2_line_51 (by decide) rfl ?_
      refine gx_aload_n C dX2_line_52 1 rfl ?_
      refine gx_callVV (t0 := 2) (As := []) (rest := []) C E rfl dX2_line_53 (mx2_next (cx_l X) g a0) (lw_V q470 q472 qs1 q126 q473) hyx_X2_next rfl hR (Nat.le_of_ble_eq_true rfl) (by decide) rfl rfl (Nat.zero_le _) ?_
      refine gx_aload_n C dX2_line_56 1 rfl ?_
      refine gy_callVI (t0 := 2) (As := []) (rest := []) C E hX hQ rfl dX2_line_57 (mx2_person (cx_l X) g a0) (lw_V q1019 q1021 qs17 q126 q1022) hyx_X2_person rfl hR (Nat.le_of_ble_eq_true rfl) (by decide) rfl rfl (Nat.zero_le _) (fun v57 => ?_)
      refine gj_istore_n (L' := [(3, _), (2, _), (0, _), (1, _)]) C dX2_line_60 (by decide) rfl ?_
      refine gj_iload_n C dX2_line_61 1 rfl ?_
      refine gj_iload_n C dX2_line_62 0 rfl ?_
      refine gj_icmp_eq (tgt := 90) C dX2_line_63 (by decide) rfl rfl (fun h63 => gj_pos h63 ?_) (fun h63 => gj_neg h63 ?_)
      · exact gj_to [2] (J90 a0) rfl
      · refine gx_aload_n C dX2_line_66 2 rfl ?_
        refine gx_gR (O := "BorrowedLives$Reader") (nm := "town") (ds := "LBorrowedLives$Town;") (fin := false) C E dX2_line_67 (by decide +kernel) (Or.inl q195) (fun _ h => h) (fun v67 => ?_)
        refine gx_gR (O := "BorrowedLives$Town") (nm := "people") (ds := "Ljava/util/ArrayList;") (fin := true) C E dX2_line_70 (by decide +kernel) (Or.inr ⟨_, q254⟩) (fun _ h => h) (fun v70 => ?_)
        refine gj_iload_n C dX2_line_73 1 rfl ?_
        refine gx_callVR (t0 := 26) (As := [.int (iI v48)]) (rest := []) C E rfl dX2_line_74 (mj2_get (cx_l X) g v70 v48) (lw_V q1023 q355 q356 q130 q357) hyx_J2_get rfl hR (Nat.le_of_ble_eq_true rfl) (by decide) rfl rfl (Nat.zero_le _) (fun v74 => ?_)
        refine gx_cast C E dX2_line_77 q871 xc_BorrowedLives_Person ?_
        refine gx_gIs (O := "BorrowedLives$Person") (nm := "barred") (ds := "I") (fin := false) C E dX2_line_80 (by decide +kernel) (Or.inl q888) (fun _ h => h) (fun v80 => ?_)
        refine gj_iload_n C dX2_line_83 0 rfl ?_
        refine gx_callSNI (As := [.int (iI v80), .int (iI v57)]) (rest := []) C E dX2_line_84 (mx1_isIn (cx_l X) g v80 v57) (lw_meth q1026) q125 q1024 q1025 hyx_X1_isIn hR (Nat.le_of_ble_eq_true rfl) (by decide) rfl rfl (Nat.zero_le _) (fun v84 => ?_)
        refine gj_if_eq (tgt := 96) C dX2_line_87 (by decide) (fun h87 => gj_pos h87 ?_) (fun h87 => gj_neg h87 ?_)
        · refine gx_aload_n C dX2_line_96 2 rfl ?_
          refine gx_callVV (t0 := 2) (As := []) (rest := []) C E rfl dX2_line_97 (mx2_next (cx_l X) g a0) (lw_V q470 q472 qs1 q126 q473) hyx_X2_next rfl hR (Nat.le_of_ble_eq_true rfl) (by decide) rfl rfl (Nat.zero_le _) ?_
          refine gx_aload_n C dX2_line_100 2 rfl ?_
          refine gx_gR (O := "BorrowedLives$Reader") (nm := "town") (ds := "LBorrowedLives$Town;") (fin := false) C E dX2_line_101 (by decide +kernel) (Or.inl q195) (fun _ h => h) (fun v101 => ?_)
          refine gx_gR (O := "BorrowedLives$Town") (nm := "people") (ds := "Ljava/util/ArrayList;") (fin := true) C E dX2_line_104 (by decide +kernel) (Or.inr ⟨_, q254⟩) (fun _ h => h) (fun v104 => ?_)
          refine gj_iload_n C dX2_line_107 1 rfl ?_
          refine gx_callVR (t0 := 26) (As := [.int (iI v48)]) (rest := []) C E rfl dX2_line_108 (mj2_get (cx_l X) g v104 v48) (lw_V q1023 q355 q356 q130 q357) hyx_J2_get rfl hR (Nat.le_of_ble_eq_true rfl) (by decide) rfl rfl (Nat.zero_le _) (fun v108 => ?_)
          refine gx_cast C E dX2_line_111 q871 xc_BorrowedLives_Person ?_
          refine gx_dup C dX2_line_114 ?_
          refine gx_gIs (O := "BorrowedLives$Person") (nm := "barred") (ds := "I") (fin := false) C E dX2_line_115 (by decide +kernel) (Or.inl q888) (fun _ h => h) (fun v115 => ?_)
          refine gj_iconst C dX2_line_118 ?_
          refine gj_iload_n C dX2_line_119 0 rfl ?_
          refine gj_ishl C dX2_line_120 ?_
          refine gj_ior C dX2_line_121 ?_
          refine gx_pIs (O := "BorrowedLives$Person") (nm := "barred") (ds := "I") (fin := false) (ty := .int) C E dX2_line_122 (by decide +kernel) (Or.inl q888) (fun _ h => h) (fun h => by cases h) (by decide +kernel) (inty_int _) ?_
          refine gx_aload_n C dX2_line_125 2 rfl ?_
          refine gx_gR (O := "BorrowedLives$Reader") (nm := "town") (ds := "LBorrowedLives$Town;") (fin := false) C E dX2_line_126 (by decide +kernel) (Or.inl q195) (fun _ h => h) (fun v126 => ?_)
          refine gx_dup C dX2_line_129 ?_
          refine gx_gI (O := "BorrowedLives$Town") (nm := "bars") (ds := "I") (fin := false) C E dX2_line_130 (by decide +kernel) (Or.inr ⟨_, q255⟩) (fun _ h => h) (fun v130 => ?_)
          refine gj_iconst C dX2_line_133 ?_
          refine gj_iadd C dX2_line_134 ?_
          refine gj_nrmI ?_
          refine gx_pI (O := "BorrowedLives$Town") (nm := "bars") (ds := "I") (fin := false) (ty := .int) C E dX2_line_135 (by decide +kernel) (Or.inr ⟨_, q255⟩) (fun _ h => h) (fun h => by cases h) (by decide +kernel) (inty_int _) ?_
          refine gj_goto (tgt := 220) C dX2_line_138 (by decide) ?_
          exact gy_vret C hQ hr dX2_line_220
        · exact gj_to [2] (J90 a0) rfl
    · refine gj_neg h1_1 ?_
      by_cases h1_2 : w32 a1 = 2
      · refine gj_pos h1_2 ?_
        refine gj_tin (tgt := 141) C 2 h1_2 dX2_line_1 (by decide) (by decide) rfl (by decide) ?_
        refine gx_aload_n C dX2_line_141 0 rfl ?_
        refine gx_gR (O := "BorrowedLives$Reader") (nm := "town") (ds := "LBorrowedLives$Town;") (fin := false) C E dX2_line_142 (by decide +kernel) (Or.inl q195) (fun _ h => h) (fun v142 => ?_)
        refine gx_aload_n C dX2_line_145 0 rfl ?_
        refine gj_iconst C dX2_line_146 ?_
        refine gj_sipush C dX2_line_147 rfl ?_
        refine gy_callVI (t0 := 2) (As := [.int (iI 0), .int (iI 999)]) (rest := [rv g v142]) C E hX hQ rfl dX2_line_150 (mx2_number_2 (cx_l X) g a0 0 999) (lw_V q950 q952 qs13 q126 q953) hyx_X2_number_2 rfl hR (Nat.le_of_ble_eq_true rfl) (by decide) rfl rfl (by simp only [List.map_cons, List.map_nil, List.sum_cons, List.sum_nil, rv_cat, cat_int, cat_long]; decide) (fun v150 => ?_)
        refine gx_pI (O := "BorrowedLives$Town") (nm := "sign") (ds := "I") (fin := false) (ty := .int) C E dX2_line_153 (by decide +kernel) (Or.inr ⟨_, q258⟩) (fun _ h => h) (fun h => by cases h) (by decide +kernel) (inty_int _) ?_
        refine gj_goto (tgt := 220) C dX2_line_156 (by decide) ?_
        exact gy_vret C hQ hr dX2_line_220
      · refine gj_neg h1_2 ?_
        by_cases h1_3 : w32 a1 = 3
        · refine gj_pos h1_3 ?_
          refine gj_tin (tgt := 159) C 3 h1_3 dX2_line_1 (by decide) (by decide) rfl (by decide) ?_
          refine gx_aload_n C dX2_line_159 0 rfl ?_
          refine gx_gR (O := "BorrowedLives$Reader") (nm := "town") (ds := "LBorrowedLives$Town;") (fin := false) C E dX2_line_160 (by decide +kernel) (Or.inl q195) (fun _ h => h) (fun v160 => ?_)
          refine gx_aload_n C dX2_line_163 0 rfl ?_
          refine gx_ldcS C E 8 (by decide) rfl dX2_line_164 ?_
          refine gy_callVR (t0 := 2) (As := [rv g ((some (CB + 8)))]) (rest := [rv g v160]) C E hX hQ rfl dX2_line_166 (mx2_worked (cx_l X) g a0 (some (CB + 8))) (lw_V q1028 q1030 qs18 q126 q1031) hyx_X2_worked rfl hR (Nat.le_of_ble_eq_true rfl) (by decide) rfl rfl (by simp only [List.map_cons, List.map_nil, List.sum_cons, List.sum_nil, rv_cat, cat_int, cat_long]; decide) (fun v166 => ?_)
          refine gx_pR (O := "BorrowedLives$Town") (nm := "spends") (ds := "LBorrowedLives$Expression;") (fin := false) (ty := (.object "BorrowedLives$Expression")) C E dX2_line_169 (by decide +kernel) (Or.inr ⟨_, q259⟩) (fun _ h => h) (fun h => by cases h) (by decide +kernel) (by decide) ?_
          refine gj_goto (tgt := 220) C dX2_line_172 (by decide) ?_
          exact gy_vret C hQ hr dX2_line_220
        · refine gj_neg h1_3 ?_
          by_cases h1_4 : w32 a1 = 4
          · refine gj_pos h1_4 ?_
            refine gj_tin (tgt := 175) C 4 h1_4 dX2_line_1 (by decide) (by decide) rfl (by decide) ?_
            refine gx_aload_n C dX2_line_175 0 rfl ?_
            refine gx_gR (O := "BorrowedLives$Reader") (nm := "town") (ds := "LBorrowedLives$Town;") (fin := false) C E dX2_line_176 (by decide +kernel) (Or.inl q195) (fun _ h => h) (fun v176 => ?_)
            refine gx_aload_n C dX2_line_179 0 rfl ?_
            refine gx_ldcS C E 8 (by decide) rfl dX2_line_180 ?_
            refine gy_callVR (t0 := 2) (As := [rv g ((some (CB + 8)))]) (rest := [rv g v176]) C E hX hQ rfl dX2_line_182 (mx2_worked (cx_l X) g a0 (some (CB + 8))) (lw_V q1028 q1030 qs18 q126 q1031) hyx_X2_worked rfl hR (Nat.le_of_ble_eq_true rfl) (by decide) rfl rfl (by simp only [List.map_cons, List.map_nil, List.sum_cons, List.sum_nil, rv_cat, cat_int, cat_long]; decide) (fun v182 => ?_)
            refine gx_pR (O := "BorrowedLives$Town") (nm := "mends") (ds := "LBorrowedLives$Expression;") (fin := false) (ty := (.object "BorrowedLives$Expression")) C E dX2_line_185 (by decide +kernel) (Or.inr ⟨_, q261⟩) (fun _ h => h) (fun h => by cases h) (by decide +kernel) (by decide) ?_
            refine gj_goto (tgt := 220) C dX2_line_188 (by decide) ?_
            exact gy_vret C hQ hr dX2_line_220
          · refine gj_neg h1_4 ?_
            by_cases h1_5 : w32 a1 = 5
            · refine gj_pos h1_5 ?_
              refine gj_tin (tgt := 191) C 5 h1_5 dX2_line_1 (by decide) (by decide) rfl (by decide) ?_
              refine gx_aload_n C dX2_line_191 0 rfl ?_
              refine gx_gR (O := "BorrowedLives$Reader") (nm := "town") (ds := "LBorrowedLives$Town;") (fin := false) C E dX2_line_192 (by decide +kernel) (Or.inl q195) (fun _ h => h) (fun v192 => ?_)
              refine gx_aload_n C dX2_line_195 0 rfl ?_
              refine gx_ldcS C E 11 (by decide) rfl dX2_line_196 ?_
              refine gy_callVR (t0 := 2) (As := [rv g ((some (CB + 11)))]) (rest := [rv g v192]) C E hX hQ rfl dX2_line_198 (mx2_worked (cx_l X) g a0 (some (CB + 11))) (lw_V q1028 q1030 qs18 q126 q1031) hyx_X2_worked rfl hR (Nat.le_of_ble_eq_true rfl) (by decide) rfl rfl (by simp only [List.map_cons, List.map_nil, List.sum_cons, List.sum_nil, rv_cat, cat_int, cat_long]; decide) (fun v198 => ?_)
              refine gx_pR (O := "BorrowedLives$Town") (nm := "good") (ds := "LBorrowedLives$Expression;") (fin := false) (ty := (.object "BorrowedLives$Expression")) C E dX2_line_201 (by decide +kernel) (Or.inr ⟨_, q263⟩) (fun _ h => h) (fun h => by cases h) (by decide +kernel) (by decide) ?_
              refine gj_goto (tgt := 220) C dX2_line_204 (by decide) ?_
              exact gy_vret C hQ hr dX2_line_220
            · refine gj_neg h1_5 ?_
              refine gj_tout (tgt := 207) C dX2_line_1 (by omega) (by decide) ?_
              refine gx_aload_n C dX2_line_207 0 rfl ?_
              refine gx_gR (O := "BorrowedLives$Reader") (nm := "town") (ds := "LBorrowedLives$Town;") (fin := false) C E dX2_line_208 (by decide +kernel) (Or.inl q195) (fun _ h => h) (fun v208 => ?_)
              refine gx_aload_n C dX2_line_211 0 rfl ?_
              refine gx_ldcS C E 8 (by decide) rfl dX2_line_212 ?_
              refine gy_callVR (t0 := 2) (As := [rv g ((some (CB + 8)))]) (rest := [rv g v208]) C E hX hQ rfl dX2_line_214 (mx2_worked (cx_l X) g a0 (some (CB + 8))) (lw_V q1028 q1030 qs18 q126 q1031) hyx_X2_worked rfl hR (Nat.le_of_ble_eq_true rfl) (by decide) rfl rfl (by simp only [List.map_cons, List.map_nil, List.sum_cons, List.sum_nil, rv_cat, cat_int, cat_long]; decide) (fun v214 => ?_)
              refine gx_pR (O := "BorrowedLives$Town") (nm := "wish") (ds := "LBorrowedLives$Expression;") (fin := false) (ty := (.object "BorrowedLives$Expression")) C E dX2_line_217 (by decide +kernel) (Or.inr ⟨_, q265⟩) (fun _ h => h) (fun h => by cases h) (by decide +kernel) (by decide) ?_
              exact gy_vret C hQ hr dX2_line_220
