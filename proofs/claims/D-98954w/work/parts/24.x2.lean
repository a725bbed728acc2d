/-! THE COMPONENT: its methods as pure programs, and that the machine runs so (X2.begin, X1.reads, J5.checkIndex, J6.charAt, J5.charAt, X2.which, J10.init_2, J11.init, J12.init, X6.init, X2.wrong, X2.isTold, J13.init, J14.init, J15.newLength, J13.ensureCapacityInternal, J13.isLatin1, J6.canEncode_2, J13.append, J14.append, J13.getValue, J13.length, J14.length, J16.checkLength, J16.copyOfRangeByte, J16.copyOfRange, J5.init_2, J5.init, J14.toString, X2.name, J6.equals, J5.equals, X3.person): printed by genx.py -/
def x2_begin (a0 a1 : Option Nat) (a2 : Int) : PT Hp Unit :=
  pbnd (xpR a0 2 0 a1) fun _ =>
  pbnd (xpI a0 2 1 (w32 a2)) fun _ =>
  pbnd (xpI a0 2 2 0) fun _ =>
  pbnd (xpI a0 2 6 0) fun _ =>
  pbnd (xrecv a0 2) fun _ =>
  pbnd (x2_next a0) fun _ =>
  pret ()
set_option maxHeartbeats 4000000 in
set_option maxRecDepth 100000 in
theorem mx2_begin (l : Launch) (g : XG) (a0 a1 : Option Nat) (a2 : Int) : XMet l g yX2_begin cX2_begin 3 (Option.none : Option Jvm.ClassFile.FieldType) (5) [rv g a0, rv g a1, .int (iI a2)] (x2_begin a0 a1 a2) rvV := by
  refine gx_start (by decide +kernel) (by have e := lg_sl_len [rv g a0, rv g a1, .int (iI a2)]; simp only [List.map_cons, List.map_nil, List.sum_cons, List.sum_nil, rv_cat, cat_int, cat_long] at e; omega) (fun X Q σ0 hl C E hQ hR hr hnm => ?_)
  subst hl
  rw [show lv_args 0 [rv g a0, rv g a1, .int (iI a2)] = [(0, rv g a0), (1, rv g a1), (2, .int (iI a2))] from by simp [lv_args, rv_cat, cat_int, cat_long]]
  show GJ X 3 (xWo g σ0 (cx_s X).heap) Q (x2_begin a0 a1 a2) 0 [(0, rv g a0), (1, rv g a1), (2, .int (iI a2))] []
  unfold x2_begin
  refine gx_aload_n C dX2_begin_0 0 rfl ?_
  refine gx_aload_n C dX2_begin_1 1 rfl ?_
  refine gx_pR (O := "BorrowedLives$Reader") (nm := "text") (ds := "[B") (fin := false) (ty := (.array .byte)) C E dX2_begin_2 (by decide +kernel) (Or.inl q188) (fun _ h => h) (fun h => by cases h) (by decide +kernel) (by decide) ?_
  refine gx_aload_n C dX2_begin_5 0 rfl ?_
  refine gj_iload_n C dX2_begin_6 2 rfl ?_
  refine gj_nrmI ?_
  refine gx_pI (O := "BorrowedLives$Reader") (nm := "size") (ds := "I") (fin := false) (ty := .int) C E dX2_begin_7 (by decide +kernel) (Or.inl q189) (fun _ h => h) (fun h => by cases h) (by decide +kernel) (inty_int _) ?_
  refine gx_aload_n C dX2_begin_10 0 rfl ?_
  refine gj_iconst C dX2_begin_11 ?_
  refine gx_pI (O := "BorrowedLives$Reader") (nm := "to") (ds := "I") (fin := false) (ty := .int) C E dX2_begin_12 (by decide +kernel) (Or.inl q190) (fun _ h => h) (fun h => by cases h) (by decide +kernel) (inty_int _) ?_
  refine gx_aload_n C dX2_begin_15 0 rfl ?_
  refine gj_iconst C dX2_begin_16 ?_
  refine gx_pI (O := "BorrowedLives$Reader") (nm := "within") (ds := "I") (fin := false) (ty := .int) C E dX2_begin_17 (by decide +kernel) (Or.inl q194) (fun _ h => h) (fun h => by cases h) (by decide +kernel) (inty_int _) ?_
  refine gx_aload_n C dX2_begin_20 0 rfl ?_
  refine gx_callVV (t0 := 2) (As := []) (rest := []) C E rfl dX2_begin_21 (mx2_next (cx_l X) g a0) (lw_V q470 q472 qs1 q126 q473) hyx_X2_next rfl hR (Nat.le_of_ble_eq_true rfl) (by decide) rfl rfl (Nat.zero_le _) ?_
  exact gx_vret C hQ hr dX2_begin_24
def x1_reads (a0 : Option Nat) : PT Hp Unit :=
  pbnd (xgR a0 1 1) fun v1 =>
  pbnd (xgR a0 1 0) fun v5 =>
  pbnd (xgI a0 1 8) fun v9 =>
  pbnd (xrecv v1 2) fun _ =>
  pbnd (x2_begin v1 v5 v9) fun _ =>
  pbnd (xpI a0 1 8 0) fun _ =>
  pret ()
set_option maxHeartbeats 4000000 in
set_option maxRecDepth 100000 in
theorem mx1_reads (l : Launch) (g : XG) (a0 : Option Nat) : XMet l g yX1_reads cX1_reads 1 (Option.none : Option Jvm.ClassFile.FieldType) (6) [rv g a0] (x1_reads a0) rvV := by
  refine gx_start (by decide +kernel) (by have e := lg_sl_len [rv g a0]; simp only [List.map_cons, List.map_nil, List.sum_cons, List.sum_nil, rv_cat, cat_int, cat_long] at e; omega) (fun X Q σ0 hl C E hQ hR hr hnm => ?_)
  subst hl
  rw [show lv_args 0 [rv g a0] = [(0, rv g a0)] from by simp [lv_args, rv_cat, cat_int, cat_long]]
  show GJ X 1 (xWo g σ0 (cx_s X).heap) Q (x1_reads a0) 0 [(0, rv g a0)] []
  unfold x1_reads
  refine gx_aload_n C dX1_reads_0 0 rfl ?_
  refine gx_gR (O := "BorrowedLives") (nm := "reader") (ds := "LBorrowedLives$Reader;") (fin := true) C E dX1_reads_1 (by decide +kernel) (Or.inl q374) (fun _ h => h) (fun v1 => ?_)
  refine gx_aload_n C dX1_reads_4 0 rfl ?_
  refine gx_gR (O := "BorrowedLives") (nm := "tape") (ds := "[B") (fin := true) C E dX1_reads_5 (by decide +kernel) (Or.inl q373) (fun _ h => h) (fun v5 => ?_)
  refine gx_aload_n C dX1_reads_8 0 rfl ?_
  refine gx_gI (O := "BorrowedLives") (nm := "taped") (ds := "I") (fin := false) C E dX1_reads_9 (by decide +kernel) (Or.inl q388) (fun _ h => h) (fun v9 => ?_)
  refine gx_callVV (t0 := 2) (As := [rv g v5, .int (iI v9)]) (rest := []) C E rfl dX1_reads_12 (mx2_begin (cx_l X) g v1 v5 v9) (lw_V q466 q467 q468 q126 q469) hyx_X2_begin rfl hR (Nat.le_of_ble_eq_true rfl) (by decide) rfl rfl (Nat.zero_le _) ?_
  refine gx_aload_n C dX1_reads_15 0 rfl ?_
  refine gj_iconst C dX1_reads_16 ?_
  refine gx_pI (O := "BorrowedLives") (nm := "taped") (ds := "I") (fin := false) (ty := .int) C E dX1_reads_17 (by decide +kernel) (Or.inl q388) (fun _ h => h) (fun h => by cases h) (by decide +kernel) (inty_int _) ?_
  exact gx_vret C hQ hr dX1_reads_20
def j5_checkIndex (a0 a1 : Int) : PT Hp Unit :=
  pbnd xopq fun v2 =>
  pbnd (j4_checkIndex a0 a1 v2) fun v5 =>
  pret ()
set_option maxHeartbeats 4000000 in
set_option maxRecDepth 100000 in
theorem mj5_checkIndex (l : Launch) (g : XG) (a0 a1 : Int) : XMet l g yJ5_checkIndex cJ5_checkIndex 2 (Option.none : Option Jvm.ClassFile.FieldType) (1) [.int (iI a0), .int (iI a1)] (j5_checkIndex a0 a1) rvV := by
  refine gx_start (by decide +kernel) (by have e := lg_sl_len [.int (iI a0), .int (iI a1)]; simp only [List.map_cons, List.map_nil, List.sum_cons, List.sum_nil, rv_cat, cat_int, cat_long] at e; omega) (fun X Q σ0 hl C E hQ hR hr hnm => ?_)
  subst hl
  show GJ X 2 (xWo g σ0 (cx_s X).heap) Q (j5_checkIndex a0 a1) 0 [(0, .int (iI a0)), (1, .int (iI a1))] []
  unfold j5_checkIndex
  refine gj_iload_n C dJ5_checkIndex_0 0 rfl ?_
  refine gj_iload_n C dJ5_checkIndex_1 1 rfl ?_
  refine gx_gsSF C E dJ5_checkIndex_2 q540 (fun v2 => ?_)
  refine gx_callSI (As := [.int (iI a0), .int (iI a1), rv g v2]) (rest := []) C E dJ5_checkIndex_5 (mj4_checkIndex (cx_l X) g a0 a1 v2) (lw_S q594 q362 q133 q363) hyx_J4_checkIndex hR (Nat.le_of_ble_eq_true rfl) (by decide) rfl rfl (Nat.zero_le _) (fun v5 => ?_)
  refine gj_pop C dJ5_checkIndex_8 rfl ?_
  exact gx_vret C hQ hr dJ5_checkIndex_9
def j6_charAt (a0 : Option Nat) (a1 : Int) : PT Hp Int :=
  pbnd (xklen a0) fun v2 =>
  pbnd (j5_checkIndex a1 v2) fun _ =>
  pbnd (xld a0 48 a1) fun v8 =>
  pbnd (pzc (zi2c (zand v8 255))) fun _ => pret (zi2c (zand v8 255))
set_option maxHeartbeats 4000000 in
set_option maxRecDepth 100000 in
theorem mj6_charAt (l : Launch) (g : XG) (a0 : Option Nat) (a1 : Int) : XMet l g yJ6_charAt cJ6_charAt 2 (Option.some Jvm.ClassFile.FieldType.char) (2) [rv g a0, .int (iI a1)] (j6_charAt a0 a1) rvI := by
  refine gx_start (by decide +kernel) (by have e := lg_sl_len [rv g a0, .int (iI a1)]; simp only [List.map_cons, List.map_nil, List.sum_cons, List.sum_nil, rv_cat, cat_int, cat_long] at e; omega) (fun X Q σ0 hl C E hQ hR hr hnm => ?_)
  subst hl
  rw [show lv_args 0 [rv g a0, .int (iI a1)] = [(0, rv g a0), (1, .int (iI a1))] from by simp [lv_args, rv_cat, cat_int, cat_long]]
  show GJ X 2 (xWo g σ0 (cx_s X).heap) Q (j6_charAt a0 a1) 0 [(0, rv g a0), (1, .int (iI a1))] []
  unfold j6_charAt
  refine gj_iload_n C dJ6_charAt_0 1 rfl ?_
  refine gx_aload_n C dJ6_charAt_1 0 rfl ?_
  refine gx_klen C E dJ6_charAt_2 (fun v2 => ?_)
  refine gx_callSV (As := [.int (iI a1), .int (iI v2)]) (rest := []) C E dJ6_charAt_3 (mj5_checkIndex (cx_l X) g a1 v2) (lw_S q591 q592 q135 q593) hyx_J5_checkIndex hR (Nat.le_of_ble_eq_true rfl) (by decide) rfl rfl (Nat.zero_le _) ?_
  refine gx_aload_n C dJ6_charAt_6 0 rfl ?_
  refine gj_iload_n C dJ6_charAt_7 1 rfl ?_
  refine gx_kbald C E dJ6_charAt_8 (fun v8 => ?_)
  refine gj_sipush C dJ6_charAt_9 rfl ?_
  refine gj_iand C dJ6_charAt_12 ?_
  refine gj_i2c C dJ6_charAt_13 ?_
  exact gx_cret C hQ hr dJ6_charAt_14
def j5_charAt (a0 : Option Nat) (a1 : Int) : PT Hp Int :=
  pbnd (xrecv a0 29) fun _ =>
  pbnd (j5_isLatin1 a0) fun v1 =>
  pite (w32 v1 = 0) (
    pbnd (xkgR a0) fun v17 =>
    pfail) (
    pbnd (xkgR a0) fun v8 =>
    pbnd (j6_charAt v8 a1) fun v12 =>
    pbnd (pzc v12) fun _ => pret v12)
set_option maxHeartbeats 4000000 in
set_option maxRecDepth 100000 in
theorem mj5_charAt (l : Launch) (g : XG) (a0 : Option Nat) (a1 : Int) : XMet l g yJ5_charAt cJ5_charAt 2 (Option.some Jvm.ClassFile.FieldType.char) (3) [rv g a0, .int (iI a1)] (j5_charAt a0 a1) rvI := by
  refine gx_start (by decide +kernel) (by have e := lg_sl_len [rv g a0, .int (iI a1)]; simp only [List.map_cons, List.map_nil, List.sum_cons, List.sum_nil, rv_cat, cat_int, cat_long] at e; omega) (fun X Q σ0 hl C E hQ hR hr hnm => ?_)
  subst hl
  rw [show lv_args 0 [rv g a0, .int (iI a1)] = [(0, rv g a0), (1, .int (iI a1))] from by simp [lv_args, rv_cat, cat_int, cat_long]]
  show GJ X 2 (xWo g σ0 (cx_s X).heap) Q (j5_charAt a0 a1) 0 [(0, rv g a0), (1, .int (iI a1))] []
  unfold j5_charAt
  refine gx_aload_n C dJ5_charAt_0 0 rfl ?_
  refine gx_callKI (As := []) (rest := []) C E dJ5_charAt_1 (mj5_isLatin1 (cx_l X) g a0) (lw_V q493 q494 q495 q135 q496) hyx_J5_isLatin1 rfl hR (Nat.le_of_ble_eq_true rfl) (by decide) rfl rfl (Nat.zero_le _) (fun v1 => ?_)
  refine gj_if_eq (tgt := 16) C dJ5_charAt_4 (by decide) (fun h4 => gj_pos h4 ?_) (fun h4 => gj_neg h4 ?_)
  · refine gx_aload_n C dJ5_charAt_16 0 rfl ?_
    refine gx_kgR C E dJ5_charAt_17 q840 (fun v17 => ?_)
    refine gj_iload_n C dJ5_charAt_20 1 rfl ?_
    exact gj_fail
  · refine gx_aload_n C dJ5_charAt_7 0 rfl ?_
    refine gx_kgR C E dJ5_charAt_8 q840 (fun v8 => ?_)
    refine gj_iload_n C dJ5_charAt_11 1 rfl ?_
    refine gx_callSI (As := [rv g v8, .int (iI a1)]) (rest := []) C E dJ5_charAt_12 (mj6_charAt (cx_l X) g v8 a1) (lw_S q588 q589 q136 q590) hyx_J6_charAt hR (Nat.le_of_ble_eq_true rfl) (by decide) rfl rfl (Nat.zero_le _) (fun v12 => ?_)
    exact gx_cret C hQ hr dJ5_charAt_15
def x2_which_j103 (a0 a1 : Option Nat) (a2 a3 a4 a5 : Int) (bk4 : (Int × Int) → PT Hp Int) : PT Hp Int :=
  pite (w32 a5 = 0) (
    plet (a3 + ((a4 + 1))) fun x116 =>
    bk4 (a2 + 1, x116)) (
    pret (w32 a2))
def x2_which_b55 (a0 a1 : Option Nat) (a2 a3 a4 : Int) (bk4 : (Int × Int) → PT Hp Int) (a5 a6 : Int) (bk55 : (Int × Int) → PT Hp Int) : PT Hp Int :=
  pite (w32 a5 = 0) (
    x2_which_j103 a0 a1 a2 a3 a4 a5 bk4) (
    pite (w32 a6 < w32 a4) (
      pbnd (xgR a0 2 0) fun v68 =>
      pbnd (xgI a0 2 4) fun v72 =>
      pbnd (xld v68 43 (v72 + a6)) fun v78 =>
      pbnd (xrecv a1 29) fun _ =>
      pbnd (j5_charAt a1 (a3 + a6)) fun v84 =>
      plet (if w32 v78 = w32 v84 then 1 else 0) fun d95 =>
      bk55 (d95, a6 + 1)) (
      x2_which_j103 a0 a1 a2 a3 a4 a5 bk4))
def x2_which_l55 (a0 a1 : Option Nat) (a2 a3 a4 a5 a6 : Int) (bk4 : (Int × Int) → PT Hp Int) : PT Hp Int :=
  ploop (fun (s : (Int × Int)) bk55 => x2_which_b55 a0 a1 a2 a3 a4 bk4 s.1 s.2 bk55) (a5, a6)
def x2_which_b4 (a0 a1 : Option Nat) (a2 a3 : Int) (bk4 : (Int × Int) → PT Hp Int) : PT Hp Int :=
  pbnd (xrecv a1 29) fun _ =>
  pbnd (j5_length a1) fun v6 =>
  pite (w32 a3 < w32 v6) (
    pbnd (xgI a0 2 3) fun v13 =>
    pite (w32 v13 = 1) (
      pbnd (xrecv a1 29) fun _ =>
      pbnd (j5_indexOf_2 a1 32 a3) fun v24 =>
      plet (v24 - a3) fun x29 =>
      pbnd (xgI a0 2 2) fun v32 =>
      pbnd (xgI a0 2 4) fun v36 =>
      plet (if w32 ((v32 - v36)) = w32 x29 then 1 else 0) fun d50 =>
      x2_which_l55 a0 a1 a2 a3 x29 d50 0 bk4) (
      pret (-1))) (
    pret (-1))
def x2_which_l4 (a0 a1 : Option Nat) (a2 a3 : Int) : PT Hp Int :=
  ploop (fun (s : (Int × Int)) bk4 => x2_which_b4 a0 a1 s.1 s.2 bk4) (a2, a3)
def x2_which (a0 a1 : Option Nat) : PT Hp Int :=
  x2_which_l4 a0 a1 0 0
set_option maxHeartbeats 4000000 in
set_option maxRecDepth 100000 in
theorem mx2_which (l : Launch) (g : XG) (a0 a1 : Option Nat) : XMet l g yX2_which cX2_which 7 (Option.some Jvm.ClassFile.FieldType.int) (4) [rv g a0, rv g a1] (x2_which a0 a1) rvI := by
  refine gx_start (by decide +kernel) (by have e := lg_sl_len [rv g a0, rv g a1]; simp only [List.map_cons, List.map_nil, List.sum_cons, List.sum_nil, rv_cat, cat_int, cat_long] at e; omega) (fun X Q σ0 hl C E hQ hR hr hnm => ?_)
  subst hl
  rw [show lv_args 0 [rv g a0, rv g a1] = [(0, rv g a0), (1, rv g a1)] from by simp [lv_args, rv_cat, cat_int, cat_long]]
  show GJ X 7 (xWo g σ0 (cx_s X).heap) Q (x2_which a0 a1) 0 [(0, rv g a0), (1, rv g a1)] []
  have J4 : ∀ (a0 a1 : Option Nat) (a2 a3 : Int), GJ X 7 (xWo g σ0 (cx_s X).heap) Q (x2_which_l4 a0 a1 a2 a3) 4 [(0, rv g a0), (1, rv g a1), (2, .int (iI a2)), (3, .int (iI a3))] [] := by
    intro a0 a1 a2 a3
    unfold x2_which_l4
    refine gj_loop (fun (s : (Int × Int)) => [(0, rv g a0), (1, rv g a1), (2, .int (iI (s.1))), (3, .int (iI (s.2)))]) (a2, a3) (fun bk4 hb4 s => ?_)
    obtain ⟨a2, a3⟩ := s
    show GJ X 7 (xWo g σ0 (cx_s X).heap) Q (x2_which_b4 a0 a1 a2 a3 bk4) 4 [(0, rv g a0), (1, rv g a1), (2, .int (iI a2)), (3, .int (iI a3))] []
    have J103 : ∀ (a2 a3 a4 a5 : Int), GJ X 7 (xWo g σ0 (cx_s X).heap) Q (x2_which_j103 a0 a1 a2 a3 a4 a5 bk4) 103 [(0, rv g a0), (1, rv g a1), (2, .int (iI a2)), (3, .int (iI a3)), (4, .int (iI a4)), (5, .int (iI a5))] [] := by
      intro a2 a3 a4 a5
      unfold x2_which_j103
      refine gj_iload C dX2_which_103 5 rfl ?_
      refine gj_if_eq (tgt := 110) C dX2_which_105 (by decide) (fun h105 => gj_pos h105 ?_) (fun h105 => gj_neg h105 ?_)
      · refine gj_iload_n C dX2_which_110 3 rfl ?_
        refine gj_iload C dX2_which_111 4 rfl ?_
        refine gj_iconst C dX2_which_113 ?_
        refine gj_iadd C dX2_which_114 ?_
        refine gj_iadd C dX2_which_115 ?_
        refine gj_let (fun x116 => ?_)
        refine gj_istore_n (L' := [(3, _), (0, _), (1, _), (2, _), (4, _), (5, _)]) C dX2_which_116 (by decide) rfl ?_
        refine gj_iinc (L' := [(2, .int (iI ((a2 + 1)))), (3, .int (iI x116)), (0, rv g a0), (1, rv g a1), (4, .int (iI a4)), (5, .int (iI a5))]) C dX2_which_117 3 rfl (by decide) (by simp [List.filter, rv_cat, cat_int, cat_long, fin4_3]) ?_
        refine gj_goto (tgt := 4) C dX2_which_120 (by decide) ?_
        exact gj_to [2, 3, 0, 1] (hb4 (a2 + 1, x116)) rfl
      · refine gj_iload_n C dX2_which_108 2 rfl ?_
        refine gj_nrmI ?_
        exact gx_iret C hQ hr dX2_which_109
    have J55 : ∀ (a2 a3 a4 a5 a6 : Int), GJ X 7 (xWo g σ0 (cx_s X).heap) Q (x2_which_l55 a0 a1 a2 a3 a4 a5 a6 bk4) 55 [(0, rv g a0), (1, rv g a1), (2, .int (iI a2)), (3, .int (iI a3)), (4, .int (iI a4)), (5, .int (iI a5)), (6, .int (iI a6))] [] := by
      intro a2 a3 a4 a5 a6
      unfold x2_which_l55
      refine gj_loop (fun (s : (Int × Int)) => [(0, rv g a0), (1, rv g a1), (2, .int (iI a2)), (3, .int (iI a3)), (4, .int (iI a4)), (5, .int (iI (s.1))), (6, .int (iI (s.2)))]) (a5, a6) (fun bk55 hb55 s => ?_)
      obtain ⟨a5, a6⟩ := s
      show GJ X 7 (xWo g σ0 (cx_s X).heap) Q (x2_which_b55 a0 a1 a2 a3 a4 bk4 a5 a6 bk55) 55 [(0, rv g a0), (1, rv g a1), (2, .int (iI a2)), (3, .int (iI a3)), (4, .int (iI a4)), (5, .int (iI a5)), (6, .int (iI a6))] []
      unfold x2_which_b55
      refine gj_iload C dX2_which_55 5 rfl ?_
      refine gj_if_eq (tgt := 103) C dX2_which_57 (by decide) (fun h57 => gj_pos h57 ?_) (fun h57 => gj_neg h57 ?_)
      · exact gj_to [0, 1, 2, 3, 4, 5] (J103 a2 a3 a4 a5) rfl
      · refine gj_iload C dX2_which_60 6 rfl ?_
        refine gj_iload C dX2_which_62 4 rfl ?_
        refine gj_icmp_ge (tgt := 103) C dX2_which_64 (by decide) rfl rfl (fun h64 => gj_neg h64 ?_) (fun h64 => gj_pos h64 ?_)
        · exact gj_to [0, 1, 2, 3, 4, 5] (J103 a2 a3 a4 a5) rfl
        · refine gx_aload_n C dX2_which_67 0 rfl ?_
          refine gx_gR (O := "BorrowedLives$Reader") (nm := "text") (ds := "[B") (fin := false) C E dX2_which_68 (by decide +kernel) (Or.inl q188) (fun _ h => h) (fun v68 => ?_)
          refine gx_aload_n C dX2_which_71 0 rfl ?_
          refine gx_gI (O := "BorrowedLives$Reader") (nm := "from") (ds := "I") (fin := false) C E dX2_which_72 (by decide +kernel) (Or.inl q192) (fun _ h => h) (fun v72 => ?_)
          refine gj_iload C dX2_which_75 6 rfl ?_
          refine gj_iadd C dX2_which_77 ?_
          refine gx_bald C E dX2_which_78 (fun v78 => ?_)
          refine gx_aload_n C dX2_which_79 1 rfl ?_
          refine gj_iload_n C dX2_which_80 3 rfl ?_
          refine gj_iload C dX2_which_81 6 rfl ?_
          refine gj_iadd C dX2_which_83 ?_
          refine gx_callKI (As := [.int (iI ((a3 + a6)))]) (rest := [.int (iI v78)]) C E dX2_which_84 (mj5_charAt (cx_l X) g a1 (a3 + a6)) (lw_V q584 q585 q586 q135 q587) hyx_J5_charAt rfl hR (Nat.le_of_ble_eq_true rfl) (by decide) rfl rfl (Nat.le_of_ble_eq_true rfl) (fun v84 => ?_)
          refine gj_dia (J := 95) (L := [(0, rv g a0), (1, rv g a1), (2, .int (iI a2)), (3, .int (iI a3)), (4, .int (iI a4)), (5, .int (iI a5)), (6, .int (iI a6))]) (st := []) (fun d95 => ?_) (fun t hJ => ?_)
          · skip
            refine gj_istore (L' := [(5, _), (0, _), (1, _), (2, _), (3, _), (4, _), (6, _)]) C dX2_which_95 (by decide) rfl ?_
            refine gj_iinc (L' := [(6, _), (5, _), (0, _), (1, _), (2, _), (3, _), (4, _)]) C dX2_which_97 6 rfl (by decide) rfl ?_
            refine gj_goto (tgt := 55) C dX2_which_100 (by decide) ?_
            exact gj_to [2, 3, 4, 5, 6, 1, 0] (hb55 (d95, a6 + 1)) rfl
          · refine gj_icmp_ne (tgt := 94) C dX2_which_87 (by decide) rfl rfl (fun h87 => ?_) (fun h87 => ?_)
            · refine gj_iconst C dX2_which_94 ?_
              exact (by rw [if_neg h87] at hJ; exact hJ)
            · refine gj_iconst C dX2_which_90 ?_
              refine gj_goto (tgt := 95) C dX2_which_91 (by decide) ?_
              exact (by rw [if_pos h87] at hJ; exact hJ)
    unfold x2_which_b4
    refine gj_iload_n C dX2_which_4 3 rfl ?_
    refine gx_aload_n C dX2_which_5 1 rfl ?_
    refine gx_callKI (As := []) (rest := [.int (iI a3)]) C E dX2_which_6 (mj5_length (cx_l X) g a1) (lw_V q582 q500 q501 q135 q502) hyx_J5_length rfl hR (Nat.le_of_ble_eq_true rfl) (by decide) rfl rfl (Nat.le_of_ble_eq_true rfl) (fun v6 => ?_)
    refine gj_icmp_ge (tgt := 123) C dX2_which_9 (by decide) rfl rfl (fun h9 => gj_neg h9 ?_) (fun h9 => gj_pos h9 ?_)
    · refine gj_iconst C dX2_which_123 ?_
      exact gx_iret C hQ hr dX2_which_124
    · refine gx_aload_n C dX2_which_12 0 rfl ?_
      refine gx_gI (O := "BorrowedLives$Reader") (nm := "kind") (ds := "I") (fin := false) C E dX2_which_13 (by decide +kernel) (Or.inl q191) (fun _ h => h) (fun v13 => ?_)
      refine gj_iconst C dX2_which_16 ?_
      refine gj_icmp_ne (tgt := 123) (b' := 1) C dX2_which_17 (by decide) rfl (by decide) (fun h17 => gj_neg h17 ?_) (fun h17 => gj_pos h17 ?_)
      · refine gj_iconst C dX2_which_123 ?_
        exact gx_iret C hQ hr dX2_which_124
      · refine gx_aload_n C dX2_which_20 1 rfl ?_
        refine gj_bipush C dX2_which_21 rfl ?_
        refine gj_iload_n C dX2_which_23 3 rfl ?_
        refine gx_callKI (As := [.int (iI 32), .int (iI a3)]) (rest := []) C E dX2_which_24 (mj5_indexOf_2 (cx_l X) g a1 32 a3) (lw_V q583 q490 q491 q135 q492) hyx_J5_indexOf_2 rfl hR (Nat.le_of_ble_eq_true rfl) (by decide) rfl rfl (Nat.zero_le _) (fun v24 => ?_)
        refine gj_iload_n C dX2_which_27 3 rfl ?_
        refine gj_isub C dX2_which_28 ?_
        refine gj_let (fun x29 => ?_)
        refine gj_istore (L' := [(4, _), (0, _), (1, _), (2, _), (3, _)]) C dX2_which_29 (by decide) rfl ?_
        refine gx_aload_n C dX2_which_31 1 rfl ?_
        refine gx_gI (O := "BorrowedLives$Reader") (nm := "to") (ds := "I") (fin := false) C E dX2_which_32 (by decide +kernel) (Or.inl q190) (fun _ h => h) (fun v32 => ?_)
        refine gx_aload_n C dX2_which_35 1 rfl ?_
        refine gx_gI (O := "BorrowedLives$Reader") (nm := "from") (ds := "I") (fin := false) C E dX2_which_36 (by decide +kernel) (Or.inl q192) (fun _ h => h) (fun v36 => ?_)
        refine gj_isub C dX2_which_39 ?_
        refine gj_iload C dX2_which_40 0 rfl ?_
        refine gj_dia (J := 50) (L := [(4, .int (iI x29)), (0, rv g a0), (1, rv g a1), (2, .int (iI a2)), (3, .int (iI a3))]) (st := []) (fun d50 => ?_) (fun t hJ => ?_)
        · skip
          refine gj_istore (L' := [(5, _), (4, _), (0, _), (1, _), (2, _), (3, _)]) C dX2_which_50 (by decide) rfl ?_
          refine gj_iconst C dX2_which_52 ?_
          refine gj_istore (L' := [(6, _), (5, _), (4, _), (0, _), (1, _), (2, _), (3, _)]) C dX2_which_53 (by decide) rfl ?_
          exact gj_to [3, 4, 5, 6, 2, 1, 0] (J55 a2 a3 x29 d50 0) rfl
        · refine gj_icmp_ne (tgt := 49) C dX2_which_42 (by decide) rfl rfl (fun h42 => ?_) (fun h42 => ?_)
          · refine gj_iconst C dX2_which_49 ?_
            exact (by rw [if_neg h42] at hJ; exact hJ)
          · refine gj_iconst C dX2_which_45 ?_
            refine gj_goto (tgt := 50) C dX2_which_46 (by decide) ?_
            exact (by rw [if_pos h42] at hJ; exact hJ)
  unfold x2_which
  refine gj_iconst C dX2_which_0 ?_
  refine gj_istore_n (L' := [(2, .int (iI 0)), (0, rv g a0), (1, rv g a1)]) C dX2_which_1 (by decide) (by simp [List.filter, rv_cat, cat_int, cat_long, fin4_3]) ?_
  refine gj_iconst C dX2_which_2 ?_
  refine gj_istore_n (L' := [(3, _), (2, _), (0, _), (1, _)]) C dX2_which_3 (by decide) rfl ?_
  exact gj_to [2, 3, 1, 0] (J4 a0 a1 0 0) rfl
def j10_init_2_j41 (a0 a1 a2 : Option Nat) (a3 : Int) : PT Hp Unit :=
  pbnd (xpR a0 5 3 a1) fun _ =>
  pbnd (xpR a0 5 0 a2) fun _ =>
  pite (w32 a3 = 0) (
    pbnd (xpR a0 5 2 none) fun _ =>
    pret ()) (
    pret ())
def j10_init_2 (a0 a1 a2 : Option Nat) (a3 a4 : Int) : PT Hp Unit :=
  pbnd (xnn a0) fun _ =>
  pbnd (xpR a0 5 0 a0) fun _ =>
  pbnd xopq fun v10 =>
  pbnd (xpR a0 5 1 v10) fun _ =>
  pbnd xopq fun v17 =>
  pbnd (xpR a0 5 2 v17) fun _ =>
  pite (w32 a4 = 0) (
    pbnd (xpR a0 5 1 none) fun _ =>
    j10_init_2_j41 a0 a1 a2 a3) (
    pfail)
set_option maxHeartbeats 4000000 in
set_option maxRecDepth 100000 in
theorem mj10_init_2 (l : Launch) (g : XG) (a0 a1 a2 : Option Nat) (a3 a4 : Int) : XMet l g yJ10_init_2 cJ10_init_2 5 (Option.none : Option Jvm.ClassFile.FieldType) (1) [rv g a0, rv g a1, rv g a2, .int (iI a3), .int (iI a4)] (j10_init_2 a0 a1 a2 a3 a4) rvV := by
  refine gx_start (by decide +kernel) (by have e := lg_sl_len [rv g a0, rv g a1, rv g a2, .int (iI a3), .int (iI a4)]; simp only [List.map_cons, List.map_nil, List.sum_cons, List.sum_nil, rv_cat, cat_int, cat_long] at e; omega) (fun X Q σ0 hl C E hQ hR hr hnm => ?_)
  subst hl
  rw [show lv_args 0 [rv g a0, rv g a1, rv g a2, .int (iI a3), .int (iI a4)] = [(0, rv g a0), (1, rv g a1), (2, rv g a2), (3, .int (iI a3)), (4, .int (iI a4))] from by simp [lv_args, rv_cat, cat_int, cat_long]]
  show GJ X 5 (xWo g σ0 (cx_s X).heap) Q (j10_init_2 a0 a1 a2 a3 a4) 0 [(0, rv g a0), (1, rv g a1), (2, rv g a2), (3, .int (iI a3)), (4, .int (iI a4))] []
  have J41 : ∀ (a0 a1 a2 : Option Nat) (a3 : Int), GJ X 5 (xWo g σ0 (cx_s X).heap) Q (j10_init_2_j41 a0 a1 a2 a3) 41 [(0, rv g a0), (1, rv g a1), (2, rv g a2), (3, .int (iI a3))] [] := by
    intro a0 a1 a2 a3
    unfold j10_init_2_j41
    refine gx_aload_n C dJ10_init_2_41 0 rfl ?_
    refine gx_aload_n C dJ10_init_2_42 1 rfl ?_
    refine gx_pR (O := "java/lang/Throwable") (nm := "detailMessage") (ds := "Ljava/lang/String;") (fin := false) (ty := (.object "java/lang/String")) C E dJ10_init_2_43 (by decide +kernel) (Or.inl q661) (fun _ h => h) (fun h => by cases h) (by decide +kernel) (by decide) ?_
    refine gx_aload_n C dJ10_init_2_46 0 rfl ?_
    refine gx_aload_n C dJ10_init_2_47 2 rfl ?_
    refine gx_pR (O := "java/lang/Throwable") (nm := "cause") (ds := "Ljava/lang/Throwable;") (fin := false) (ty := (.object "java/lang/Throwable")) C E dJ10_init_2_48 (by decide +kernel) (Or.inl q662) (fun _ h => h) (fun h => by cases h) (by decide +kernel) (by decide) ?_
    refine gj_iload_n C dJ10_init_2_51 3 rfl ?_
    refine gj_if_ne (tgt := 60) C dJ10_init_2_52 (by decide) (fun h52 => gj_neg h52 ?_) (fun h52 => gj_pos h52 ?_)
    · exact gx_vret C hQ hr dJ10_init_2_60
    · refine gx_aload_n C dJ10_init_2_55 0 rfl ?_
      refine gx_null C dJ10_init_2_56 ?_
      refine gx_pR (O := "java/lang/Throwable") (nm := "suppressedExceptions") (ds := "Ljava/util/List;") (fin := false) (ty := (.object "java/util/List")) C E dJ10_init_2_57 (by decide +kernel) (Or.inl q664) (fun _ h => h) (fun h => by cases h) (by decide +kernel) (by decide) ?_
      exact gx_vret C hQ hr dJ10_init_2_60
  unfold j10_init_2
  refine gx_aload_n C dJ10_init_2_0 0 rfl ?_
  refine gx_objinit C E dJ10_init_2_1 q631 q180 q181 hR (Nat.le_of_ble_eq_true rfl) (Nat.zero_le _) ?_
  refine gx_aload_n C dJ10_init_2_4 0 rfl ?_
  refine gx_aload_n C dJ10_init_2_5 0 rfl ?_
  refine gx_pR (O := "java/lang/Throwable") (nm := "cause") (ds := "Ljava/lang/Throwable;") (fin := false) (ty := (.object "java/lang/Throwable")) C E dJ10_init_2_6 (by decide +kernel) (Or.inl q662) (fun _ h => h) (fun h => by cases h) (by decide +kernel) (by decide) ?_
  refine gx_aload_n C dJ10_init_2_9 0 rfl ?_
  refine gx_gsUS C E dJ10_init_2_10 q632 (fun v10 => ?_)
  refine gx_pR (O := "java/lang/Throwable") (nm := "stackTrace") (ds := "[Ljava/lang/StackTraceElement;") (fin := false) (ty := (.array (.object "java/lang/StackTraceElement"))) C E dJ10_init_2_13 (by decide +kernel) (Or.inl q663) (fun _ h => h) (fun h => by cases h) (by decide +kernel) (by decide) ?_
  refine gx_aload_n C dJ10_init_2_16 0 rfl ?_
  refine gx_gsSS C E dJ10_init_2_17 q634 (fun v17 => ?_)
  refine gx_pR (O := "java/lang/Throwable") (nm := "suppressedExceptions") (ds := "Ljava/util/List;") (fin := false) (ty := (.object "java/util/List")) C E dJ10_init_2_20 (by decide +kernel) (Or.inl q664) (fun _ h => h) (fun h => by cases h) (by decide +kernel) (by decide) ?_
  refine gj_iload C dJ10_init_2_23 4 rfl ?_
  refine gj_if_eq (tgt := 36) C dJ10_init_2_25 (by decide) (fun h25 => gj_pos h25 ?_) (fun h25 => gj_neg h25 ?_)
  · refine gx_aload_n C dJ10_init_2_36 0 rfl ?_
    refine gx_null C dJ10_init_2_37 ?_
    refine gx_pR (O := "java/lang/Throwable") (nm := "stackTrace") (ds := "[Ljava/lang/StackTraceElement;") (fin := false) (ty := (.array (.object "java/lang/StackTraceElement"))) C E dJ10_init_2_38 (by decide +kernel) (Or.inl q663) (fun _ h => h) (fun h => by cases h) (by decide +kernel) (by decide) ?_
    exact gj_to [0, 1, 2, 3] (J41 a0 a1 a2 a3) rfl
  · refine gx_aload_n C dJ10_init_2_28 0 rfl ?_
    exact gj_fail
def j11_init (a0 a1 a2 : Option Nat) (a3 a4 : Int) : PT Hp Unit :=
  pbnd (xnn a0) fun _ =>
  pbnd (j10_init_2 a0 a1 a2 a3 a4) fun _ =>
  pret ()
set_option maxHeartbeats 4000000 in
set_option maxRecDepth 100000 in
theorem mj11_init (l : Launch) (g : XG) (a0 a1 a2 : Option Nat) (a3 a4 : Int) : XMet l g yJ11_init cJ11_init 5 (Option.none : Option Jvm.ClassFile.FieldType) (2) [rv g a0, rv g a1, rv g a2, .int (iI a3), .int (iI a4)] (j11_init a0 a1 a2 a3 a4) rvV := by
  refine gx_start (by decide +kernel) (by have e := lg_sl_len [rv g a0, rv g a1, rv g a2, .int (iI a3), .int (iI a4)]; simp only [List.map_cons, List.map_nil, List.sum_cons, List.sum_nil, rv_cat, cat_int, cat_long] at e; omega) (fun X Q σ0 hl C E hQ hR hr hnm => ?_)
  subst hl
  rw [show lv_args 0 [rv g a0, rv g a1, rv g a2, .int (iI a3), .int (iI a4)] = [(0, rv g a0), (1, rv g a1), (2, rv g a2), (3, .int (iI a3)), (4, .int (iI a4))] from by simp [lv_args, rv_cat, cat_int, cat_long]]
  show GJ X 5 (xWo g σ0 (cx_s X).heap) Q (j11_init a0 a1 a2 a3 a4) 0 [(0, rv g a0), (1, rv g a1), (2, rv g a2), (3, .int (iI a3)), (4, .int (iI a4))] []
  unfold j11_init
  refine gx_aload_n C dJ11_init_0 0 rfl ?_
  refine gx_aload_n C dJ11_init_1 1 rfl ?_
  refine gx_aload_n C dJ11_init_2 2 rfl ?_
  refine gj_iload_n C dJ11_init_3 3 rfl ?_
  refine gj_iload C dJ11_init_4 4 rfl ?_
  refine gx_callIV (As := [rv g a1, rv g a2, .int (iI a3), .int (iI a4)]) (rest := []) C E dJ11_init_6 (mj10_init_2 (cx_l X) g a0 a1 a2 a3 a4) (lw_meth q657) q140 q655 q656 rfl hyx_J10_init_2 hR (Nat.le_of_ble_eq_true rfl) (by decide) rfl rfl (Nat.zero_le _) ?_
  exact gx_vret C hQ hr dJ11_init_9
def j12_init (a0 a1 a2 : Option Nat) (a3 a4 : Int) : PT Hp Unit :=
  pbnd (xnn a0) fun _ =>
  pbnd (j11_init a0 a1 a2 a3 a4) fun _ =>
  pret ()
set_option maxHeartbeats 4000000 in
set_option maxRecDepth 100000 in
theorem mj12_init (l : Launch) (g : XG) (a0 a1 a2 : Option Nat) (a3 a4 : Int) : XMet l g yJ12_init cJ12_init 5 (Option.none : Option Jvm.ClassFile.FieldType) (3) [rv g a0, rv g a1, rv g a2, .int (iI a3), .int (iI a4)] (j12_init a0 a1 a2 a3 a4) rvV := by
  refine gx_start (by decide +kernel) (by have e := lg_sl_len [rv g a0, rv g a1, rv g a2, .int (iI a3), .int (iI a4)]; simp only [List.map_cons, List.map_nil, List.sum_cons, List.sum_nil, rv_cat, cat_int, cat_long] at e; omega) (fun X Q σ0 hl C E hQ hR hr hnm => ?_)
  subst hl
  rw [show lv_args 0 [rv g a0, rv g a1, rv g a2, .int (iI a3), .int (iI a4)] = [(0, rv g a0), (1, rv g a1), (2, rv g a2), (3, .int (iI a3)), (4, .int (iI a4))] from by simp [lv_args, rv_cat, cat_int, cat_long]]
  show GJ X 5 (xWo g σ0 (cx_s X).heap) Q (j12_init a0 a1 a2 a3 a4) 0 [(0, rv g a0), (1, rv g a1), (2, rv g a2), (3, .int (iI a3)), (4, .int (iI a4))] []
  unfold j12_init
  refine gx_aload_n C dJ12_init_0 0 rfl ?_
  refine gx_aload_n C dJ12_init_1 1 rfl ?_
  refine gx_aload_n C dJ12_init_2 2 rfl ?_
  refine gj_iload_n C dJ12_init_3 3 rfl ?_
  refine gj_iload C dJ12_init_4 4 rfl ?_
  refine gx_callIV (As := [rv g a1, rv g a2, .int (iI a3), .int (iI a4)]) (rest := []) C E dJ12_init_6 (mj11_init (cx_l X) g a0 a1 a2 a3 a4) (lw_meth q654) q141 q652 q653 rfl hyx_J11_init hR (Nat.le_of_ble_eq_true rfl) (by decide) rfl rfl (Nat.zero_le _) ?_
  exact gx_vret C hQ hr dJ12_init_9
def x6_init (a0 : Option Nat) (a1 a2 : Int) : PT Hp Unit :=
  pbnd (xnn a0) fun _ =>
  pbnd (j12_init a0 none none 0 0) fun _ =>
  pbnd (xpI a0 5 6 (w32 (a1 + ((16 * a2))))) fun _ =>
  pret ()
set_option maxHeartbeats 4000000 in
set_option maxRecDepth 100000 in
theorem mx6_init (l : Launch) (g : XG) (a0 : Option Nat) (a1 a2 : Int) : XMet l g yX6_init cX6_init 3 (Option.none : Option Jvm.ClassFile.FieldType) (4) [rv g a0, .int (iI a1), .int (iI a2)] (x6_init a0 a1 a2) rvV := by
  refine gx_start (by decide +kernel) (by have e := lg_sl_len [rv g a0, .int (iI a1), .int (iI a2)]; simp only [List.map_cons, List.map_nil, List.sum_cons, List.sum_nil, rv_cat, cat_int, cat_long] at e; omega) (fun X Q σ0 hl C E hQ hR hr hnm => ?_)
  subst hl
  rw [show lv_args 0 [rv g a0, .int (iI a1), .int (iI a2)] = [(0, rv g a0), (1, .int (iI a1)), (2, .int (iI a2))] from by simp [lv_args, rv_cat, cat_int, cat_long]]
  show GJ X 3 (xWo g σ0 (cx_s X).heap) Q (x6_init a0 a1 a2) 0 [(0, rv g a0), (1, .int (iI a1)), (2, .int (iI a2))] []
  unfold x6_init
  refine gx_aload_n C dX6_init_0 0 rfl ?_
  refine gx_null C dX6_init_1 ?_
  refine gx_null C dX6_init_2 ?_
  refine gj_iconst C dX6_init_3 ?_
  refine gj_iconst C dX6_init_4 ?_
  refine gx_callIV (As := [rv g none, rv g none, .int (iI 0), .int (iI 0)]) (rest := []) C E dX6_init_5 (mj12_init (cx_l X) g a0 none none 0 0) (lw_meth q651) q142 q649 q650 rfl hyx_J12_init hR (Nat.le_of_ble_eq_true rfl) (by decide) rfl rfl (Nat.zero_le _) ?_
  refine gx_aload_n C dX6_init_8 0 rfl ?_
  refine gj_iload_n C dX6_init_9 1 rfl ?_
  refine gj_bipush C dX6_init_10 rfl ?_
  refine gj_iload_n C dX6_init_12 2 rfl ?_
  refine gj_imul C dX6_init_13 ?_
  refine gj_iadd C dX6_init_14 ?_
  refine gj_nrmI ?_
  refine gx_pI (O := "BorrowedLives$Wrong") (nm := "fault") (ds := "I") (fin := true) (ty := .int) C E dX6_init_15 (by decide +kernel) (Or.inl q658) (fun _ h => h) (fun _ => ⟨hnm, rfl⟩) (by decide +kernel) (inty_int _) ?_
  exact gx_vret C hQ hr dX6_init_18
def x2_wrong (a0 : Option Nat) (a1 : Int) : PT Hp (Option Nat) :=
  pbnd (xnew 5) fun v0 =>
  pbnd (xgI a0 2 4) fun v6 =>
  pbnd (xnn v0) fun _ =>
  pbnd (x6_init v0 a1 v6) fun _ =>
  pret v0
set_option maxHeartbeats 4000000 in
set_option maxRecDepth 100000 in
theorem mx2_wrong (l : Launch) (g : XG) (a0 : Option Nat) (a1 : Int) : XMet l g yX2_wrong cX2_wrong 2 (Option.some (Jvm.ClassFile.FieldType.object "BorrowedLives$Wrong")) (5) [rv g a0, .int (iI a1)] (x2_wrong a0 a1) (rvR g) := by
  refine gx_start (by decide +kernel) (by have e := lg_sl_len [rv g a0, .int (iI a1)]; simp only [List.map_cons, List.map_nil, List.sum_cons, List.sum_nil, rv_cat, cat_int, cat_long] at e; omega) (fun X Q σ0 hl C E hQ hR hr hnm => ?_)
  subst hl
  rw [show lv_args 0 [rv g a0, .int (iI a1)] = [(0, rv g a0), (1, .int (iI a1))] from by simp [lv_args, rv_cat, cat_int, cat_long]]
  show GJ X 2 (xWo g σ0 (cx_s X).heap) Q (x2_wrong a0 a1) 0 [(0, rv g a0), (1, .int (iI a1))] []
  unfold x2_wrong
  refine gx_new (t0 := 5) C E dX2_wrong_0 rfl q606 q607 q143 (fun v0 => ?_)
  refine gx_dup C dX2_wrong_3 ?_
  refine gj_iload_n C dX2_wrong_4 1 rfl ?_
  refine gx_aload_n C dX2_wrong_5 0 rfl ?_
  refine gx_gI (O := "BorrowedLives$Reader") (nm := "from") (ds := "I") (fin := false) C E dX2_wrong_6 (by decide +kernel) (Or.inl q192) (fun _ h => h) (fun v6 => ?_)
  refine gx_callIV (As := [.int (iI a1), .int (iI v6)]) (rest := [rv g v0]) C E dX2_wrong_9 (mx6_init (cx_l X) g v0 a1 v6) (lw_meth q648) q143 q646 q647 rfl hyx_X6_init hR (Nat.le_of_ble_eq_true rfl) (by decide) rfl rfl (by simp only [List.map_cons, List.map_nil, List.sum_cons, List.sum_nil, rv_cat, cat_int, cat_long]; decide) ?_
  exact gx_aret C hQ hr (Or.inl ⟨_, rfl⟩) dX2_wrong_12
def x2_isTold (a0 : Option Nat) (a1 : Int) : PT Hp Int :=
  pite (w32 a1 = 2) (
    pbnd (xgR a0 2 7) fun v37 =>
    pbnd (xgI v37 3 2) fun v40 =>
    plet (if w32 v40 < 0 then 0 else 1) fun d51 =>
    pbnd (pzo d51) fun _ => pret d51) (
    pite (w32 a1 = 3) (
      pbnd (xgR a0 2 7) fun v53 =>
      pbnd (xgR v53 3 3) fun v56 =>
      pite (v56 = none) (
        pbnd (pzo 0) fun _ => pret 0) (
        pbnd (pzo 1) fun _ => pret 1)) (
      pite (w32 a1 = 4) (
        pbnd (xgR a0 2 7) fun v69 =>
        pbnd (xgR v69 3 4) fun v72 =>
        pite (v72 = none) (
          pbnd (pzo 0) fun _ => pret 0) (
          pbnd (pzo 1) fun _ => pret 1)) (
        pite (w32 a1 = 5) (
          pbnd (xgR a0 2 7) fun v85 =>
          pbnd (xgR v85 3 5) fun v88 =>
          pite (v88 = none) (
            pbnd (pzo 0) fun _ => pret 0) (
            pbnd (pzo 1) fun _ => pret 1)) (
          pite (w32 a1 = 6) (
            pbnd (xgR a0 2 7) fun v101 =>
            pbnd (xgR v101 3 6) fun v104 =>
            pite (v104 = none) (
              pbnd (pzo 0) fun _ => pret 0) (
              pbnd (pzo 1) fun _ => pret 1)) (
            pbnd (pzo 0) fun _ => pret 0)))))
set_option maxHeartbeats 4000000 in
set_option maxRecDepth 100000 in
theorem mx2_isTold (l : Launch) (g : XG) (a0 : Option Nat) (a1 : Int) : XMet l g yX2_isTold cX2_isTold 2 (Option.some Jvm.ClassFile.FieldType.boolean) (0) [rv g a0, .int (iI a1)] (x2_isTold a0 a1) rvI := by
  refine gx_start (by decide +kernel) (by have e := lg_sl_len [rv g a0, .int (iI a1)]; simp only [List.map_cons, List.map_nil, List.sum_cons, List.sum_nil, rv_cat, cat_int, cat_long] at e; omega) (fun X Q σ0 hl C E hQ hR hr hnm => ?_)
  subst hl
  rw [show lv_args 0 [rv g a0, .int (iI a1)] = [(0, rv g a0), (1, .int (iI a1))] from by simp [lv_args, rv_cat, cat_int, cat_long]]
  show GJ X 2 (xWo g σ0 (cx_s X).heap) Q (x2_isTold a0 a1) 0 [(0, rv g a0), (1, .int (iI a1))] []
  unfold x2_isTold
  refine gj_iload_n C dX2_isTold_0 1 rfl ?_
  by_cases h1_0 : w32 a1 = 2
  · refine gj_pos h1_0 ?_
    refine gj_tin (tgt := 36) C 2 h1_0 dX2_isTold_1 (by decide) (by decide) rfl (by decide) ?_
    refine gx_aload_n C dX2_isTold_36 0 rfl ?_
    refine gx_gR (O := "BorrowedLives$Reader") (nm := "town") (ds := "LBorrowedLives$Town;") (fin := false) C E dX2_isTold_37 (by decide +kernel) (Or.inl q195) (fun _ h => h) (fun v37 => ?_)
    refine gx_gI (O := "BorrowedLives$Town") (nm := "sign") (ds := "I") (fin := false) C E dX2_isTold_40 (by decide +kernel) (Or.inr ⟨_, q258⟩) (fun _ h => h) (fun v40 => ?_)
    refine gj_dia (J := 51) (L := [(0, rv g a0), (1, .int (iI a1))]) (st := []) (fun d51 => ?_) (fun t hJ => ?_)
    · skip
      exact gx_zret C hQ hr dX2_isTold_51
    · refine gj_if_lt (tgt := 50) C dX2_isTold_43 (by decide) (fun h43 => ?_) (fun h43 => ?_)
      · refine gj_iconst C dX2_isTold_50 ?_
        exact (by rw [if_pos h43] at hJ; exact hJ)
      · refine gj_iconst C dX2_isTold_46 ?_
        refine gj_goto (tgt := 51) C dX2_isTold_47 (by decide) ?_
        exact (by rw [if_neg h43] at hJ; exact hJ)
  · refine gj_neg h1_0 ?_
    by_cases h1_1 : w32 a1 = 3
    · refine gj_pos h1_1 ?_
      refine gj_tin (tgt := 52) C 3 h1_1 dX2_isTold_1 (by decide) (by decide) rfl (by decide) ?_
      refine gx_aload_n C dX2_isTold_52 0 rfl ?_
      refine gx_gR (O := "BorrowedLives$Reader") (nm := "town") (ds := "LBorrowedLives$Town;") (fin := false) C E dX2_isTold_53 (by decide +kernel) (Or.inl q195) (fun _ h => h) (fun v53 => ?_)
      refine gx_gR (O := "BorrowedLives$Town") (nm := "spends") (ds := "LBorrowedLives$Expression;") (fin := false) C E dX2_isTold_56 (by decide +kernel) (Or.inr ⟨_, q259⟩) (fun _ h => h) (fun v56 => ?_)
      refine gx_ifnull (tgt := 66) C dX2_isTold_59 (by decide) (fun h59 => gj_pos h59 ?_) (fun h59 => gj_neg h59 ?_)
      · refine gj_iconst C dX2_isTold_66 ?_
        exact gx_zret C hQ hr dX2_isTold_67
      · refine gj_iconst C dX2_isTold_62 ?_
        refine gj_goto (tgt := 67) C dX2_isTold_63 (by decide) ?_
        exact gx_zret C hQ hr dX2_isTold_67
    · refine gj_neg h1_1 ?_
      by_cases h1_2 : w32 a1 = 4
      · refine gj_pos h1_2 ?_
        refine gj_tin (tgt := 68) C 4 h1_2 dX2_isTold_1 (by decide) (by decide) rfl (by decide) ?_
        refine gx_aload_n C dX2_isTold_68 0 rfl ?_
        refine gx_gR (O := "BorrowedLives$Reader") (nm := "town") (ds := "LBorrowedLives$Town;") (fin := false) C E dX2_isTold_69 (by decide +kernel) (Or.inl q195) (fun _ h => h) (fun v69 => ?_)
        refine gx_gR (O := "BorrowedLives$Town") (nm := "mends") (ds := "LBorrowedLives$Expression;") (fin := false) C E dX2_isTold_72 (by decide +kernel) (Or.inr ⟨_, q261⟩) (fun _ h => h) (fun v72 => ?_)
        refine gx_ifnull (tgt := 82) C dX2_isTold_75 (by decide) (fun h75 => gj_pos h75 ?_) (fun h75 => gj_neg h75 ?_)
        · refine gj_iconst C dX2_isTold_82 ?_
          exact gx_zret C hQ hr dX2_isTold_83
        · refine gj_iconst C dX2_isTold_78 ?_
          refine gj_goto (tgt := 83) C dX2_isTold_79 (by decide) ?_
          exact gx_zret C hQ hr dX2_isTold_83
      · refine gj_neg h1_2 ?_
        by_cases h1_3 : w32 a1 = 5
        · refine gj_pos h1_3 ?_
          refine gj_tin (tgt := 84) C 5 h1_3 dX2_isTold_1 (by decide) (by decide) rfl (by decide) ?_
          refine gx_aload_n C dX2_isTold_84 0 rfl ?_
          refine gx_gR (O := "BorrowedLives$Reader") (nm := "town") (ds := "LBorrowedLives$Town;") (fin := false) C E dX2_isTold_85 (by decide +kernel) (Or.inl q195) (fun _ h => h) (fun v85 => ?_)
          refine gx_gR (O := "BorrowedLives$Town") (nm := "good") (ds := "LBorrowedLives$Expression;") (fin := false) C E dX2_isTold_88 (by decide +kernel) (Or.inr ⟨_, q263⟩) (fun _ h => h) (fun v88 => ?_)
          refine gx_ifnull (tgt := 98) C dX2_isTold_91 (by decide) (fun h91 => gj_pos h91 ?_) (fun h91 => gj_neg h91 ?_)
          · refine gj_iconst C dX2_isTold_98 ?_
            exact gx_zret C hQ hr dX2_isTold_99
          · refine gj_iconst C dX2_isTold_94 ?_
            refine gj_goto (tgt := 99) C dX2_isTold_95 (by decide) ?_
            exact gx_zret C hQ hr dX2_isTold_99
        · refine gj_neg h1_3 ?_
          by_cases h1_4 : w32 a1 = 6
          · refine gj_pos h1_4 ?_
            refine gj_tin (tgt := 100) C 6 h1_4 dX2_isTold_1 (by decide) (by decide) rfl (by decide) ?_
            refine gx_aload_n C dX2_isTold_100 0 rfl ?_
            refine gx_gR (O := "BorrowedLives$Reader") (nm := "town") (ds := "LBorrowedLives$Town;") (fin := false) C E dX2_isTold_101 (by decide +kernel) (Or.inl q195) (fun _ h => h) (fun v101 => ?_)
            refine gx_gR (O := "BorrowedLives$Town") (nm := "wish") (ds := "LBorrowedLives$Expression;") (fin := false) C E dX2_isTold_104 (by decide +kernel) (Or.inr ⟨_, q265⟩) (fun _ h => h) (fun v104 => ?_)
            refine gx_ifnull (tgt := 114) C dX2_isTold_107 (by decide) (fun h107 => gj_pos h107 ?_) (fun h107 => gj_neg h107 ?_)
            · refine gj_iconst C dX2_isTold_114 ?_
              exact gx_zret C hQ hr dX2_isTold_115
            · refine gj_iconst C dX2_isTold_110 ?_
              refine gj_goto (tgt := 115) C dX2_isTold_111 (by decide) ?_
              exact gx_zret C hQ hr dX2_isTold_115
          · refine gj_neg h1_4 ?_
            refine gj_tout (tgt := 116) C dX2_isTold_1 (by omega) (by decide) ?_
            refine gj_iconst C dX2_isTold_116 ?_
            exact gx_zret C hQ hr dX2_isTold_117
def j13_init (a0 : Option Nat) (a1 : Int) : PT Hp Unit :=
  pbnd (xnn a0) fun _ =>
  pite (w32 1 = 0) (
    pfail) (
    pbnd (xnewa 43 a1) fun v12 =>
    pbnd (xpR a0 27 0 v12) fun _ =>
    pbnd (pzb 0) fun _ =>
    pbnd (xpI a0 27 1 0) fun _ =>
    pret ())
set_option maxHeartbeats 4000000 in
set_option maxRecDepth 100000 in
theorem mj13_init (l : Launch) (g : XG) (a0 : Option Nat) (a1 : Int) : XMet l g yJ13_init cJ13_init 2 (Option.none : Option Jvm.ClassFile.FieldType) (1) [rv g a0, .int (iI a1)] (j13_init a0 a1) rvV := by
  refine gx_start (by decide +kernel) (by have e := lg_sl_len [rv g a0, .int (iI a1)]; simp only [List.map_cons, List.map_nil, List.sum_cons, List.sum_nil, rv_cat, cat_int, cat_long] at e; omega) (fun X Q σ0 hl C E hQ hR hr hnm => ?_)
  subst hl
  rw [show lv_args 0 [rv g a0, .int (iI a1)] = [(0, rv g a0), (1, .int (iI a1))] from by simp [lv_args, rv_cat, cat_int, cat_long]]
  show GJ X 2 (xWo g σ0 (cx_s X).heap) Q (j13_init a0 a1) 0 [(0, rv g a0), (1, .int (iI a1))] []
  unfold j13_init
  refine gx_aload_n C dJ13_init_0 0 rfl ?_
  refine gx_objinit C E dJ13_init_1 q701 q180 q181 hR (Nat.le_of_ble_eq_true rfl) (Nat.zero_le _) ?_
  refine gx_gsCS C E dJ13_init_4 q702 ?_
  refine gj_if_eq (tgt := 25) C dJ13_init_7 (by decide) (fun h7 => gj_pos h7 ?_) (fun h7 => gj_neg h7 ?_)
  · refine gx_aload_n C dJ13_init_25 0 rfl ?_
    refine gj_iload_n C dJ13_init_26 1 rfl ?_
    exact gj_fail
  · refine gx_aload_n C dJ13_init_10 0 rfl ?_
    refine gj_iload_n C dJ13_init_11 1 rfl ?_
    refine gx_newa (t0 := 3) C E dJ13_init_12 (by decide) rfl q216 (by decide) rfl (fun v12 => ?_)
    refine gx_pR (O := "java/lang/AbstractStringBuilder") (nm := "value") (ds := "[B") (fin := false) (ty := (.array .byte)) C E dJ13_init_14 (by decide +kernel) (Or.inl q710) (fun _ h => h) (fun h => by cases h) (by decide +kernel) (by decide) ?_
    refine gx_aload_n C dJ13_init_17 0 rfl ?_
    refine gj_iconst C dJ13_init_18 ?_
    refine gx_pzb (fun hz19 => ?_)
    refine gx_pI (O := "java/lang/AbstractStringBuilder") (nm := "coder") (ds := "B") (fin := false) (ty := .byte) C E dJ13_init_19 (by decide +kernel) (Or.inl q711) (fun _ h => h) (fun h => by cases h) (by decide +kernel) (inty_b hz19) ?_
    refine gj_goto (tgt := 38) C dJ13_init_22 (by decide) ?_
    exact gx_vret C hQ hr dJ13_init_38
def j14_init (a0 : Option Nat) (a1 : Int) : PT Hp Unit :=
  pbnd (xnn a0) fun _ =>
  pbnd (j13_init a0 a1) fun _ =>
  pret ()
set_option maxHeartbeats 4000000 in
set_option maxRecDepth 100000 in
theorem mj14_init (l : Launch) (g : XG) (a0 : Option Nat) (a1 : Int) : XMet l g yJ14_init cJ14_init 2 (Option.none : Option Jvm.ClassFile.FieldType) (2) [rv g a0, .int (iI a1)] (j14_init a0 a1) rvV := by
  refine gx_start (by decide +kernel) (by have e := lg_sl_len [rv g a0, .int (iI a1)]; simp only [List.map_cons, List.map_nil, List.sum_cons, List.sum_nil, rv_cat, cat_int, cat_long] at e; omega) (fun X Q σ0 hl C E hQ hR hr hnm => ?_)
  subst hl
  rw [show lv_args 0 [rv g a0, .int (iI a1)] = [(0, rv g a0), (1, .int (iI a1))] from by simp [lv_args, rv_cat, cat_int, cat_long]]
  show GJ X 2 (xWo g σ0 (cx_s X).heap) Q (j14_init a0 a1) 0 [(0, rv g a0), (1, .int (iI a1))] []
  unfold j14_init
  refine gx_aload_n C dJ14_init_0 0 rfl ?_
  refine gj_iload_n C dJ14_init_1 1 rfl ?_
  refine gx_callIV (As := [.int (iI a1)]) (rest := []) C E dJ14_init_2 (mj13_init (cx_l X) g a0 a1) (lw_meth q700) q144 q698 q699 rfl hyx_J13_init hR (Nat.le_of_ble_eq_true rfl) (by decide) rfl rfl (Nat.zero_le _) ?_
  exact gx_vret C hQ hr dJ14_init_5
def j15_newLength_j21 (a0 a1 : Int) : PT Hp Int :=
  pfail
def j15_newLength (a0 a1 a2 : Int) : PT Hp Int :=
  plet (a0 + (zmax a1 a2)) fun x7 =>
  pite (0 < w32 x7) (
    pite (2147483639 < w32 x7) (
      j15_newLength_j21 a0 a1) (
      pret (w32 x7))) (
    j15_newLength_j21 a0 a1)
set_option maxHeartbeats 4000000 in
set_option maxRecDepth 100000 in
theorem mj15_newLength (l : Launch) (g : XG) (a0 a1 a2 : Int) : XMet l g yJ15_newLength cJ15_newLength 4 (Option.some Jvm.ClassFile.FieldType.int) (1) [.int (iI a0), .int (iI a1), .int (iI a2)] (j15_newLength a0 a1 a2) rvI := by
  refine gx_start (by decide +kernel) (by have e := lg_sl_len [.int (iI a0), .int (iI a1), .int (iI a2)]; simp only [List.map_cons, List.map_nil, List.sum_cons, List.sum_nil, rv_cat, cat_int, cat_long] at e; omega) (fun X Q σ0 hl C E hQ hR hr hnm => ?_)
  subst hl
  show GJ X 4 (xWo g σ0 (cx_s X).heap) Q (j15_newLength a0 a1 a2) 0 [(0, .int (iI a0)), (1, .int (iI a1)), (2, .int (iI a2))] []
  have J21 : ∀ (a0 a1 : Int), GJ X 4 (xWo g σ0 (cx_s X).heap) Q (j15_newLength_j21 a0 a1) 21 [(0, .int (iI a0)), (1, .int (iI a1))] [] := by
    intro a0 a1
    unfold j15_newLength_j21
    refine gj_iload_n C dJ15_newLength_21 0 rfl ?_
    refine gj_iload_n C dJ15_newLength_22 1 rfl ?_
    exact gj_fail
  unfold j15_newLength
  refine gj_iload_n C dJ15_newLength_0 0 rfl ?_
  refine gj_iload_n C dJ15_newLength_1 1 rfl ?_
  refine gj_iload_n C dJ15_newLength_2 2 rfl ?_
  refine gx_max C E dJ15_newLength_3 q741 q514 q137 q515 hR (Nat.le_of_ble_eq_true rfl) (Nat.le_of_ble_eq_true rfl) ?_
  refine gj_iadd C dJ15_newLength_6 ?_
  refine gj_let (fun x7 => ?_)
  refine gj_istore_n (L' := [(3, _), (0, _), (1, _), (2, _)]) C dJ15_newLength_7 (by decide) rfl ?_
  refine gj_iconst C dJ15_newLength_8 ?_
  refine gj_iload_n C dJ15_newLength_9 0 rfl ?_
  refine gj_icmp_ge (tgt := 21) (a' := 0) C dJ15_newLength_10 (by decide) (by decide) rfl (fun h10 => gj_neg h10 ?_) (fun h10 => gj_pos h10 ?_)
  · exact gj_to [1, 2] (J21 a0 a1) rfl
  · refine gj_iload_n C dJ15_newLength_13 0 rfl ?_
    refine gj_ldc (z := 2147483639) C dJ15_newLength_14 q742 (by decide) ?_
    refine gj_icmp_gt (tgt := 21) (b' := 2147483639) C dJ15_newLength_16 (by decide) rfl (by decide) (fun h16 => gj_pos h16 ?_) (fun h16 => gj_neg h16 ?_)
    · exact gj_to [1, 2] (J21 a0 a1) rfl
    · refine gj_iload_n C dJ15_newLength_19 0 rfl ?_
      refine gj_nrmI ?_
      exact gx_iret C hQ hr dJ15_newLength_20
def j13_ensureCapacityInternal (a0 : Option Nat) (a1 : Int) : PT Hp Unit :=
  pbnd (xgR a0 27 0) fun v1 =>
  pbnd (xlen v1) fun v4 =>
  pbnd (xgI a0 27 1) fun v6 =>
  plet (zshr v4 v6) fun x10 =>
  pite (0 < w32 ((a1 - x10))) (
    pbnd (xgR a0 27 0) fun v19 =>
    pfail) (
    pret ())
set_option maxHeartbeats 4000000 in
set_option maxRecDepth 100000 in
theorem mj13_ensureCapacityInternal (l : Launch) (g : XG) (a0 : Option Nat) (a1 : Int) : XMet l g yJ13_ensureCapacityInternal cJ13_ensureCapacityInternal 3 (Option.none : Option Jvm.ClassFile.FieldType) (0) [rv g a0, .int (iI a1)] (j13_ensureCapacityInternal a0 a1) rvV := by
  refine gx_start (by decide +kernel) (by have e := lg_sl_len [rv g a0, .int (iI a1)]; simp only [List.map_cons, List.map_nil, List.sum_cons, List.sum_nil, rv_cat, cat_int, cat_long] at e; omega) (fun X Q σ0 hl C E hQ hR hr hnm => ?_)
  subst hl
  rw [show lv_args 0 [rv g a0, .int (iI a1)] = [(0, rv g a0), (1, .int (iI a1))] from by simp [lv_args, rv_cat, cat_int, cat_long]]
  show GJ X 3 (xWo g σ0 (cx_s X).heap) Q (j13_ensureCapacityInternal a0 a1) 0 [(0, rv g a0), (1, .int (iI a1))] []
  unfold j13_ensureCapacityInternal
  refine gx_aload_n C dJ13_ensureCapacityInternal_0 0 rfl ?_
  refine gx_gR (O := "java/lang/AbstractStringBuilder") (nm := "value") (ds := "[B") (fin := false) C E dJ13_ensureCapacityInternal_1 (by decide +kernel) (Or.inl q710) (fun _ h => h) (fun v1 => ?_)
  refine gx_len C E dJ13_ensureCapacityInternal_4 (fun v4 => ?_)
  refine gx_aload_n C dJ13_ensureCapacityInternal_5 0 rfl ?_
  refine gx_gI (O := "java/lang/AbstractStringBuilder") (nm := "coder") (ds := "B") (fin := false) C E dJ13_ensureCapacityInternal_6 (by decide +kernel) (Or.inl q711) (fun _ h => h) (fun v6 => ?_)
  refine gj_ishr C dJ13_ensureCapacityInternal_9 ?_
  refine gj_let (fun x10 => ?_)
  refine gj_istore_n (L' := [(2, _), (0, _), (1, _)]) C dJ13_ensureCapacityInternal_10 (by decide) rfl ?_
  refine gj_iload_n C dJ13_ensureCapacityInternal_11 2 rfl ?_
  refine gj_iload_n C dJ13_ensureCapacityInternal_12 0 rfl ?_
  refine gj_isub C dJ13_ensureCapacityInternal_13 ?_
  refine gj_if_le (tgt := 38) C dJ13_ensureCapacityInternal_14 (by decide) (fun h14 => gj_neg h14 ?_) (fun h14 => gj_pos h14 ?_)
  · exact gx_vret C hQ hr dJ13_ensureCapacityInternal_38
  · refine gx_aload_n C dJ13_ensureCapacityInternal_17 1 rfl ?_
    refine gx_aload_n C dJ13_ensureCapacityInternal_18 1 rfl ?_
    refine gx_gR (O := "java/lang/AbstractStringBuilder") (nm := "value") (ds := "[B") (fin := false) C E dJ13_ensureCapacityInternal_19 (by decide +kernel) (Or.inl q710) (fun _ h => h) (fun v19 => ?_)
    refine gx_aload_n C dJ13_ensureCapacityInternal_22 1 rfl ?_
    refine gj_iload_n C dJ13_ensureCapacityInternal_23 2 rfl ?_
    exact gj_fail
def j13_isLatin1 (a0 : Option Nat) : PT Hp Int :=
  pite (w32 1 = 0) (
    pbnd (pzo 0) fun _ => pret 0) (
    pbnd (xgI a0 27 1) fun v7 =>
    pite (w32 v7 = 0) (
      pbnd (pzo 1) fun _ => pret 1) (
      pbnd (pzo 0) fun _ => pret 0))
set_option maxHeartbeats 4000000 in
set_option maxRecDepth 100000 in
theorem mj13_isLatin1 (l : Launch) (g : XG) (a0 : Option Nat) : XMet l g yJ13_isLatin1 cJ13_isLatin1 1 (Option.some Jvm.ClassFile.FieldType.boolean) (0) [rv g a0] (j13_isLatin1 a0) rvI := by
  refine gx_start (by decide +kernel) (by have e := lg_sl_len [rv g a0]; simp only [List.map_cons, List.map_nil, List.sum_cons, List.sum_nil, rv_cat, cat_int, cat_long] at e; omega) (fun X Q σ0 hl C E hQ hR hr hnm => ?_)
  subst hl
  rw [show lv_args 0 [rv g a0] = [(0, rv g a0)] from by simp [lv_args, rv_cat, cat_int, cat_long]]
  show GJ X 1 (xWo g σ0 (cx_s X).heap) Q (j13_isLatin1 a0) 0 [(0, rv g a0)] []
  unfold j13_isLatin1
  refine gx_gsCS C E dJ13_isLatin1_0 q702 ?_
  refine gj_if_eq (tgt := 17) C dJ13_isLatin1_3 (by decide) (fun h3 => gj_pos h3 ?_) (fun h3 => gj_neg h3 ?_)
  · refine gj_iconst C dJ13_isLatin1_17 ?_
    exact gx_zret C hQ hr dJ13_isLatin1_18
  · refine gx_aload_n C dJ13_isLatin1_6 0 rfl ?_
    refine gx_gI (O := "java/lang/AbstractStringBuilder") (nm := "coder") (ds := "B") (fin := false) C E dJ13_isLatin1_7 (by decide +kernel) (Or.inl q711) (fun _ h => h) (fun v7 => ?_)
    refine gj_if_ne (tgt := 17) C dJ13_isLatin1_10 (by decide) (fun h10 => gj_neg h10 ?_) (fun h10 => gj_pos h10 ?_)
    · refine gj_iconst C dJ13_isLatin1_17 ?_
      exact gx_zret C hQ hr dJ13_isLatin1_18
    · refine gj_iconst C dJ13_isLatin1_13 ?_
      refine gj_goto (tgt := 18) C dJ13_isLatin1_14 (by decide) ?_
      exact gx_zret C hQ hr dJ13_isLatin1_18
def j6_canEncode_2 (a0 : Int) : PT Hp Int :=
  plet (if 255 < w32 a0 then 0 else 1) fun d12 =>
  pbnd (pzo d12) fun _ => pret d12
set_option maxHeartbeats 4000000 in
set_option maxRecDepth 100000 in
theorem mj6_canEncode_2 (l : Launch) (g : XG) (a0 : Int) : XMet l g yJ6_canEncode_2 cJ6_canEncode_2 1 (Option.some Jvm.ClassFile.FieldType.boolean) (0) [.int (iI a0)] (j6_canEncode_2 a0) rvI := by
  refine gx_start (by decide +kernel) (by have e := lg_sl_len [.int (iI a0)]; simp only [List.map_cons, List.map_nil, List.sum_cons, List.sum_nil, rv_cat, cat_int, cat_long] at e; omega) (fun X Q σ0 hl C E hQ hR hr hnm => ?_)
  subst hl
  show GJ X 1 (xWo g σ0 (cx_s X).heap) Q (j6_canEncode_2 a0) 0 [(0, .int (iI a0))] []
  unfold j6_canEncode_2
  refine gj_iload_n C dJ6_canEncode_2_0 0 rfl ?_
  refine gj_sipush C dJ6_canEncode_2_1 rfl ?_
  refine gj_dia (J := 12) (L := [(0, .int (iI a0))]) (st := []) (fun d12 => ?_) (fun t hJ => ?_)
  · skip
    exact gx_zret C hQ hr dJ6_canEncode_2_12
  · refine gj_icmp_gt (tgt := 11) (b' := 255) C dJ6_canEncode_2_4 (by decide) rfl (by decide) (fun h4 => ?_) (fun h4 => ?_)
    · refine gj_iconst C dJ6_canEncode_2_11 ?_
      exact (by rw [if_pos h4] at hJ; exact hJ)
    · refine gj_iconst C dJ6_canEncode_2_7 ?_
      refine gj_goto (tgt := 12) C dJ6_canEncode_2_8 (by decide) ?_
      exact (by rw [if_neg h4] at hJ; exact hJ)
def j13_append_j56 (a0 : Option Nat) (a1 : Int) : PT Hp (Option Nat) :=
  pbnd (xgR a0 27 0) fun v57 =>
  pbnd (xgI a0 27 3) fun v62 =>
  pbnd (xpI a0 27 3 (w32 (v62 + 1))) fun _ =>
  pfail
def j13_append_j45 (a0 : Option Nat) (a1 : Int) : PT Hp (Option Nat) :=
  pbnd (xrecv a0 27) fun _ =>
  pbnd (j13_isLatin1 a0) fun v46 =>
  pite (w32 v46 = 0) (
    j13_append_j56 a0 a1) (
    pfail)
def j13_append_j75 (a0 : Option Nat) : PT Hp (Option Nat) :=
  pret a0
def j13_append (a0 : Option Nat) (a1 : Int) : PT Hp (Option Nat) :=
  pbnd (xgI a0 27 3) fun v2 =>
  pbnd (xrecv a0 27) fun _ =>
  pbnd (j13_ensureCapacityInternal a0 (v2 + 1)) fun _ =>
  pbnd (xrecv a0 27) fun _ =>
  pbnd (j13_isLatin1 a0) fun v11 =>
  pite (w32 v11 = 0) (
    j13_append_j45 a0 a1) (
    pbnd (j6_canEncode_2 a1) fun v18 =>
    pite (w32 v18 = 0) (
      j13_append_j45 a0 a1) (
      pbnd (xgR a0 27 0) fun v25 =>
      pbnd (xgI a0 27 3) fun v30 =>
      pbnd (xpI a0 27 3 (w32 (v30 + 1))) fun _ =>
      pbnd (xst v25 43 v30 (zi2b (zi2b a1))) fun _ =>
      j13_append_j75 a0))
set_option maxHeartbeats 4000000 in
set_option maxRecDepth 100000 in
theorem mj13_append (l : Launch) (g : XG) (a0 : Option Nat) (a1 : Int) : XMet l g yJ13_append cJ13_append 2 (Option.some (Jvm.ClassFile.FieldType.object "java/lang/AbstractStringBuilder")) (1) [rv g a0, .int (iI a1)] (j13_append a0 a1) (rvR g) := by
  refine gx_start (by decide +kernel) (by have e := lg_sl_len [rv g a0, .int (iI a1)]; simp only [List.map_cons, List.map_nil, List.sum_cons, List.sum_nil, rv_cat, cat_int, cat_long] at e; omega) (fun X Q σ0 hl C E hQ hR hr hnm => ?_)
  subst hl
  rw [show lv_args 0 [rv g a0, .int (iI a1)] = [(0, rv g a0), (1, .int (iI a1))] from by simp [lv_args, rv_cat, cat_int, cat_long]]
  show GJ X 2 (xWo g σ0 (cx_s X).heap) Q (j13_append a0 a1) 0 [(0, rv g a0), (1, .int (iI a1))] []
  have J56 : ∀ (a0 : Option Nat) (a1 : Int), GJ X 2 (xWo g σ0 (cx_s X).heap) Q (j13_append_j56 a0 a1) 56 [(0, rv g a0), (1, .int (iI a1))] [] := by
    intro a0 a1
    unfold j13_append_j56
    refine gx_aload_n C dJ13_append_56 0 rfl ?_
    refine gx_gR (O := "java/lang/AbstractStringBuilder") (nm := "value") (ds := "[B") (fin := false) C E dJ13_append_57 (by decide +kernel) (Or.inl q710) (fun _ h => h) (fun v57 => ?_)
    refine gx_aload_n C dJ13_append_60 0 rfl ?_
    refine gx_dup C dJ13_append_61 ?_
    refine gx_gI (O := "java/lang/AbstractStringBuilder") (nm := "count") (ds := "I") (fin := false) C E dJ13_append_62 (by decide +kernel) (Or.inl q713) (fun _ h => h) (fun v62 => ?_)
    refine gj_dup_x1 C dJ13_append_65 rfl (rv_cat _ _) ?_
    refine gj_iconst C dJ13_append_66 ?_
    refine gj_iadd C dJ13_append_67 ?_
    refine gj_nrmI ?_
    refine gx_pI (O := "java/lang/AbstractStringBuilder") (nm := "count") (ds := "I") (fin := false) (ty := .int) C E dJ13_append_68 (by decide +kernel) (Or.inl q713) (fun _ h => h) (fun h => by cases h) (by decide +kernel) (inty_int _) ?_
    refine gj_iload_n C dJ13_append_71 1 rfl ?_
    exact gj_fail
  have J45 : ∀ (a0 : Option Nat) (a1 : Int), GJ X 2 (xWo g σ0 (cx_s X).heap) Q (j13_append_j45 a0 a1) 45 [(0, rv g a0), (1, .int (iI a1))] [] := by
    intro a0 a1
    unfold j13_append_j45
    refine gx_aload_n C dJ13_append_45 0 rfl ?_
    refine gx_callOI (x := ⟨"java/lang/AbstractStringBuilder", "isLatin1", "()Z"⟩) (owner := "java/lang/AbstractStringBuilder") (t0 := 27) (As := []) (rest := []) C E rfl dJ13_append_46 (mj13_isLatin1 (cx_l X) g a0) q761 q763 q762 q764 q762 q144 q765 q765 hy9_J13_isLatin1_J14 hR (Nat.le_of_ble_eq_true rfl) (by decide) rfl rfl (Nat.zero_le _) (fun v46 => ?_)
    refine gj_if_eq (tgt := 56) C dJ13_append_49 (by decide) (fun h49 => gj_pos h49 ?_) (fun h49 => gj_neg h49 ?_)
    · exact gj_to [0, 1] (J56 a0 a1) rfl
    · refine gx_aload_n C dJ13_append_52 0 rfl ?_
      exact gj_fail
  have J75 : ∀ (a0 : Option Nat), GJ X 2 (xWo g σ0 (cx_s X).heap) Q (j13_append_j75 a0) 75 [(0, rv g a0)] [] := by
    intro a0
    unfold j13_append_j75
    refine gx_aload_n C dJ13_append_75 0 rfl ?_
    exact gx_aret C hQ hr (Or.inl ⟨_, rfl⟩) dJ13_append_76
  unfold j13_append
  refine gx_aload_n C dJ13_append_0 0 rfl ?_
  refine gx_aload_n C dJ13_append_1 0 rfl ?_
  refine gx_gI (O := "java/lang/AbstractStringBuilder") (nm := "count") (ds := "I") (fin := false) C E dJ13_append_2 (by decide +kernel) (Or.inl q713) (fun _ h => h) (fun v2 => ?_)
  refine gj_iconst C dJ13_append_5 ?_
  refine gj_iadd C dJ13_append_6 ?_
  refine gx_callPV (As := [.int (iI ((v2 + 1)))]) (rest := []) C E dJ13_append_7 (mj13_ensureCapacityInternal (cx_l X) g a0 (v2 + 1)) q730 q2401 q732 q144 q733 hR (Nat.le_of_ble_eq_true rfl) (by decide) rfl rfl (Nat.zero_le _) ?_
  refine gx_aload_n C dJ13_append_10 0 rfl ?_
  refine gx_callOI (x := ⟨"java/lang/AbstractStringBuilder", "isLatin1", "()Z"⟩) (owner := "java/lang/AbstractStringBuilder") (t0 := 27) (As := []) (rest := []) C E rfl dJ13_append_11 (mj13_isLatin1 (cx_l X) g a0) q761 q763 q762 q764 q762 q144 q765 q765 hy9_J13_isLatin1_J14 hR (Nat.le_of_ble_eq_true rfl) (by decide) rfl rfl (Nat.zero_le _) (fun v11 => ?_)
  refine gj_if_eq (tgt := 45) C dJ13_append_14 (by decide) (fun h14 => gj_pos h14 ?_) (fun h14 => gj_neg h14 ?_)
  · exact gj_to [0, 1] (J45 a0 a1) rfl
  · refine gj_iload_n C dJ13_append_17 1 rfl ?_
    refine gx_callSI (As := [.int (iI a1)]) (rest := []) C E dJ13_append_18 (mj6_canEncode_2 (cx_l X) g a1) (lw_S q766 q767 q136 q768) hyx_J6_canEncode_2 hR (Nat.le_of_ble_eq_true rfl) (by decide) rfl rfl (Nat.zero_le _) (fun v18 => ?_)
    refine gj_if_eq (tgt := 45) C dJ13_append_21 (by decide) (fun h21 => gj_pos h21 ?_) (fun h21 => gj_neg h21 ?_)
    · exact gj_to [0, 1] (J45 a0 a1) rfl
    · refine gx_aload_n C dJ13_append_24 0 rfl ?_
      refine gx_gR (O := "java/lang/AbstractStringBuilder") (nm := "value") (ds := "[B") (fin := false) C E dJ13_append_25 (by decide +kernel) (Or.inl q710) (fun _ h => h) (fun v25 => ?_)
      refine gx_aload_n C dJ13_append_28 0 rfl ?_
      refine gx_dup C dJ13_append_29 ?_
      refine gx_gI (O := "java/lang/AbstractStringBuilder") (nm := "count") (ds := "I") (fin := false) C E dJ13_append_30 (by decide +kernel) (Or.inl q713) (fun _ h => h) (fun v30 => ?_)
      refine gj_dup_x1 C dJ13_append_33 rfl (rv_cat _ _) ?_
      refine gj_iconst C dJ13_append_34 ?_
      refine gj_iadd C dJ13_append_35 ?_
      refine gj_nrmI ?_
      refine gx_pI (O := "java/lang/AbstractStringBuilder") (nm := "count") (ds := "I") (fin := false) (ty := .int) C E dJ13_append_36 (by decide +kernel) (Or.inl q713) (fun _ h => h) (fun h => by cases h) (by decide +kernel) (inty_int _) ?_
      refine gj_iload_n C dJ13_append_39 1 rfl ?_
      refine gj_i2b C dJ13_append_40 ?_
      refine gx_bast C E dJ13_append_41 ?_
      refine gj_goto (tgt := 75) C dJ13_append_42 (by decide) ?_
      exact gj_to [0] (J75 a0) rfl
def j14_append (a0 : Option Nat) (a1 : Int) : PT Hp (Option Nat) :=
  pbnd (xrecv a0 27) fun _ =>
  pbnd (j13_append a0 a1) fun v2 =>
  pret a0
set_option maxHeartbeats 4000000 in
set_option maxRecDepth 100000 in
theorem mj14_append (l : Launch) (g : XG) (a0 : Option Nat) (a1 : Int) : XMet l g yJ14_append cJ14_append 2 (Option.some (Jvm.ClassFile.FieldType.object "java/lang/StringBuilder")) (2) [rv g a0, .int (iI a1)] (j14_append a0 a1) (rvR g) := by
  refine gx_start (by decide +kernel) (by have e := lg_sl_len [rv g a0, .int (iI a1)]; simp only [List.map_cons, List.map_nil, List.sum_cons, List.sum_nil, rv_cat, cat_int, cat_long] at e; omega) (fun X Q σ0 hl C E hQ hR hr hnm => ?_)
  subst hl
  rw [show lv_args 0 [rv g a0, .int (iI a1)] = [(0, rv g a0), (1, .int (iI a1))] from by simp [lv_args, rv_cat, cat_int, cat_long]]
  show GJ X 2 (xWo g σ0 (cx_s X).heap) Q (j14_append a0 a1) 0 [(0, rv g a0), (1, .int (iI a1))] []
  unfold j14_append
  refine gx_aload_n C dJ14_append_0 0 rfl ?_
  refine gj_iload_n C dJ14_append_1 1 rfl ?_
  refine gx_callSUR (t0 := 27) (As := [.int (iI a1)]) (rest := []) C E rfl dJ14_append_2 (mj13_append (cx_l X) g a0 a1) q727 q2400 q722 q728 q144 q729 hys_J13_append hR (Nat.le_of_ble_eq_true rfl) (by decide) rfl rfl (Nat.zero_le _) (fun v2 => ?_)
  refine gj_pop C dJ14_append_5 (rv_cat _ _) ?_
  refine gx_aload_n C dJ14_append_6 0 rfl ?_
  exact gx_aret C hQ hr (Or.inl ⟨_, rfl⟩) dJ14_append_7
def j13_getValue (a0 : Option Nat) : PT Hp (Option Nat) :=
  pbnd (xgR a0 27 0) fun v1 =>
  pret v1
set_option maxHeartbeats 4000000 in
set_option maxRecDepth 100000 in
theorem mj13_getValue (l : Launch) (g : XG) (a0 : Option Nat) : XMet l g yJ13_getValue cJ13_getValue 1 (Option.some (Jvm.ClassFile.FieldType.array Jvm.ClassFile.FieldType.byte)) (0) [rv g a0] (j13_getValue a0) (rvR g) := by
  refine gx_start (by decide +kernel) (by have e := lg_sl_len [rv g a0]; simp only [List.map_cons, List.map_nil, List.sum_cons, List.sum_nil, rv_cat, cat_int, cat_long] at e; omega) (fun X Q σ0 hl C E hQ hR hr hnm => ?_)
  subst hl
  rw [show lv_args 0 [rv g a0] = [(0, rv g a0)] from by simp [lv_args, rv_cat, cat_int, cat_long]]
  show GJ X 1 (xWo g σ0 (cx_s X).heap) Q (j13_getValue a0) 0 [(0, rv g a0)] []
  unfold j13_getValue
  refine gx_aload_n C dJ13_getValue_0 0 rfl ?_
  refine gx_gR (O := "java/lang/AbstractStringBuilder") (nm := "value") (ds := "[B") (fin := false) C E dJ13_getValue_1 (by decide +kernel) (Or.inl q710) (fun _ h => h) (fun v1 => ?_)
  exact gx_aret C hQ hr (Or.inr ⟨_, rfl⟩) dJ13_getValue_4
def j13_length (a0 : Option Nat) : PT Hp Int :=
  pbnd (xgI a0 27 3) fun v1 =>
  pret v1
set_option maxHeartbeats 4000000 in
set_option maxRecDepth 100000 in
theorem mj13_length (l : Launch) (g : XG) (a0 : Option Nat) : XMet l g yJ13_length cJ13_length 1 (Option.some Jvm.ClassFile.FieldType.int) (0) [rv g a0] (j13_length a0) rvI := by
  refine gx_start (by decide +kernel) (by have e := lg_sl_len [rv g a0]; simp only [List.map_cons, List.map_nil, List.sum_cons, List.sum_nil, rv_cat, cat_int, cat_long] at e; omega) (fun X Q σ0 hl C E hQ hR hr hnm => ?_)
  subst hl
  rw [show lv_args 0 [rv g a0] = [(0, rv g a0)] from by simp [lv_args, rv_cat, cat_int, cat_long]]
  show GJ X 1 (xWo g σ0 (cx_s X).heap) Q (j13_length a0) 0 [(0, rv g a0)] []
  unfold j13_length
  refine gx_aload_n C dJ13_length_0 0 rfl ?_
  refine gx_gI (O := "java/lang/AbstractStringBuilder") (nm := "count") (ds := "I") (fin := false) C E dJ13_length_1 (by decide +kernel) (Or.inl q713) (fun _ h => h) (fun v1 => ?_)
  exact gx_iret C hQ hr dJ13_length_4
def j14_length (a0 : Option Nat) : PT Hp Int :=
  pbnd (xrecv a0 27) fun _ =>
  pbnd (j13_length a0) fun v1 =>
  pret v1
set_option maxHeartbeats 4000000 in
set_option maxRecDepth 100000 in
theorem mj14_length (l : Launch) (g : XG) (a0 : Option Nat) : XMet l g yJ14_length cJ14_length 1 (Option.some Jvm.ClassFile.FieldType.int) (1) [rv g a0] (j14_length a0) rvI := by
  refine gx_start (by decide +kernel) (by have e := lg_sl_len [rv g a0]; simp only [List.map_cons, List.map_nil, List.sum_cons, List.sum_nil, rv_cat, cat_int, cat_long] at e; omega) (fun X Q σ0 hl C E hQ hR hr hnm => ?_)
  subst hl
  rw [show lv_args 0 [rv g a0] = [(0, rv g a0)] from by simp [lv_args, rv_cat, cat_int, cat_long]]
  show GJ X 1 (xWo g σ0 (cx_s X).heap) Q (j14_length a0) 0 [(0, rv g a0)] []
  unfold j14_length
  refine gx_aload_n C dJ14_length_0 0 rfl ?_
  refine gx_callSUI (t0 := 27) (As := []) (rest := []) C E rfl dJ14_length_1 (mj13_length (cx_l X) g a0) q818 q814 q722 q813 q144 q819 hys_J13_length hR (Nat.le_of_ble_eq_true rfl) (by decide) rfl rfl (Nat.zero_le _) (fun v1 => ?_)
  exact gx_iret C hQ hr dJ14_length_4
def j16_checkLength (a0 a1 : Int) : PT Hp Unit :=
  pite (w32 a1 < w32 a0) (
    pfail) (
    pret ())
set_option maxHeartbeats 4000000 in
set_option maxRecDepth 100000 in
theorem mj16_checkLength (l : Launch) (g : XG) (a0 a1 : Int) : XMet l g yJ16_checkLength cJ16_checkLength 2 (Option.none : Option Jvm.ClassFile.FieldType) (0) [.int (iI a0), .int (iI a1)] (j16_checkLength a0 a1) rvV := by
  refine gx_start (by decide +kernel) (by have e := lg_sl_len [.int (iI a0), .int (iI a1)]; simp only [List.map_cons, List.map_nil, List.sum_cons, List.sum_nil, rv_cat, cat_int, cat_long] at e; omega) (fun X Q σ0 hl C E hQ hR hr hnm => ?_)
  subst hl
  show GJ X 2 (xWo g σ0 (cx_s X).heap) Q (j16_checkLength a0 a1) 0 [(0, .int (iI a0)), (1, .int (iI a1))] []
  unfold j16_checkLength
  refine gj_iload_n C dJ16_checkLength_0 1 rfl ?_
  refine gj_iload_n C dJ16_checkLength_1 0 rfl ?_
  refine gj_icmp_ge (tgt := 37) C dJ16_checkLength_2 (by decide) rfl rfl (fun h2 => gj_neg h2 ?_) (fun h2 => gj_pos h2 ?_)
  · exact gx_vret C hQ hr dJ16_checkLength_37
  · exact gj_fail
def j16_copyOfRangeByte (a0 : Option Nat) (a1 a2 : Int) : PT Hp (Option Nat) :=
  pbnd (j16_checkLength a1 a2) fun _ =>
  plet (a2 - a1) fun x8 =>
  pbnd (xnewa 43 x8) fun v10 =>
  pbnd (xlen a0) fun v20 =>
  pbnd (xcopyI 43 a0 a1 v10 0 (zmin ((v20 - a1)) x8)) fun _ =>
  pret v10
set_option maxHeartbeats 4000000 in
set_option maxRecDepth 100000 in
theorem mj16_copyOfRangeByte (l : Launch) (g : XG) (a0 : Option Nat) (a1 a2 : Int) : XMet l g yJ16_copyOfRangeByte cJ16_copyOfRangeByte 5 (Option.some (Jvm.ClassFile.FieldType.array Jvm.ClassFile.FieldType.byte)) (1) [rv g a0, .int (iI a1), .int (iI a2)] (j16_copyOfRangeByte a0 a1 a2) (rvR g) := by
  refine gx_start (by decide +kernel) (by have e := lg_sl_len [rv g a0, .int (iI a1), .int (iI a2)]; simp only [List.map_cons, List.map_nil, List.sum_cons, List.sum_nil, rv_cat, cat_int, cat_long] at e; omega) (fun X Q σ0 hl C E hQ hR hr hnm => ?_)
  subst hl
  rw [show lv_args 0 [rv g a0, .int (iI a1), .int (iI a2)] = [(0, rv g a0), (1, .int (iI a1)), (2, .int (iI a2))] from by simp [lv_args, rv_cat, cat_int, cat_long]]
  show GJ X 5 (xWo g σ0 (cx_s X).heap) Q (j16_copyOfRangeByte a0 a1 a2) 0 [(0, rv g a0), (1, .int (iI a1)), (2, .int (iI a2))] []
  unfold j16_copyOfRangeByte
  refine gj_iload_n C dJ16_copyOfRangeByte_0 1 rfl ?_
  refine gj_iload_n C dJ16_copyOfRangeByte_1 2 rfl ?_
  refine gx_callSV (As := [.int (iI a1), .int (iI a2)]) (rest := []) C E dJ16_copyOfRangeByte_2 (mj16_checkLength (cx_l X) g a1 a2) (lw_S q827 q828 q147 q829) hyx_J16_checkLength hR (Nat.le_of_ble_eq_true rfl) (by decide) rfl rfl (Nat.zero_le _) ?_
  refine gj_iload_n C dJ16_copyOfRangeByte_5 2 rfl ?_
  refine gj_iload_n C dJ16_copyOfRangeByte_6 1 rfl ?_
  refine gj_isub C dJ16_copyOfRangeByte_7 ?_
  refine gj_let (fun x8 => ?_)
  refine gj_istore_n (L' := [(3, _), (0, _), (1, _), (2, _)]) C dJ16_copyOfRangeByte_8 (by decide) rfl ?_
  refine gj_iload_n C dJ16_copyOfRangeByte_9 0 rfl ?_
  refine gx_newa (t0 := 3) C E dJ16_copyOfRangeByte_10 (by decide) rfl q216 (by decide) rfl (fun v10 => ?_)
  refine gx_astore (L' := [(4, _), (3, _), (0, _), (1, _), (2, _)]) C dJ16_copyOfRangeByte_12 (by decide) rfl ?_
  refine gx_aload_n C dJ16_copyOfRangeByte_14 2 rfl ?_
  refine gj_iload_n C dJ16_copyOfRangeByte_15 3 rfl ?_
  refine gx_aload C dJ16_copyOfRangeByte_16 0 rfl ?_
  refine gj_iconst C dJ16_copyOfRangeByte_18 ?_
  refine gx_aload_n C dJ16_copyOfRangeByte_19 2 rfl ?_
  refine gx_len C E dJ16_copyOfRangeByte_20 (fun v20 => ?_)
  refine gj_iload_n C dJ16_copyOfRangeByte_21 3 rfl ?_
  refine gj_isub C dJ16_copyOfRangeByte_22 ?_
  refine gj_iload_n C dJ16_copyOfRangeByte_23 1 rfl ?_
  refine gx_min C E dJ16_copyOfRangeByte_24 q757 q517 q137 q518 hR (Nat.le_of_ble_eq_true rfl) (by simp only [List.map_cons, List.map_nil, List.sum_cons, List.sum_nil, rv_cat, cat_int, cat_long]; decide) ?_
  refine gx_copyB C E dJ16_copyOfRangeByte_27 q758 hR (Nat.le_of_ble_eq_true rfl) (Nat.zero_le _) ?_
  refine gx_aload C dJ16_copyOfRangeByte_30 0 rfl ?_
  exact gx_aret C hQ hr (Or.inr ⟨_, rfl⟩) dJ16_copyOfRangeByte_32
def j16_copyOfRange_j10 (a0 : Option Nat) (a1 a2 : Int) : PT Hp (Option Nat) :=
  pbnd (j16_copyOfRangeByte a0 a1 a2) fun v13 =>
  pret v13
def j16_copyOfRange (a0 : Option Nat) (a1 a2 : Int) : PT Hp (Option Nat) :=
  pite (w32 a1 = 0) (
    pbnd (xlen a0) fun v6 =>
    pite (w32 a2 = w32 v6) (
      pbnd (xclone 43 a0) fun v18 =>
      pbnd (xrecv v18 43) fun _ =>
      pret v18) (
      j16_copyOfRange_j10 a0 a1 a2)) (
    j16_copyOfRange_j10 a0 a1 a2)
set_option maxHeartbeats 4000000 in
set_option maxRecDepth 100000 in
theorem mj16_copyOfRange (l : Launch) (g : XG) (a0 : Option Nat) (a1 a2 : Int) : XMet l g yJ16_copyOfRange cJ16_copyOfRange 3 (Option.some (Jvm.ClassFile.FieldType.array Jvm.ClassFile.FieldType.byte)) (2) [rv g a0, .int (iI a1), .int (iI a2)] (j16_copyOfRange a0 a1 a2) (rvR g) := by
  refine gx_start (by decide +kernel) (by have e := lg_sl_len [rv g a0, .int (iI a1), .int (iI a2)]; simp only [List.map_cons, List.map_nil, List.sum_cons, List.sum_nil, rv_cat, cat_int, cat_long] at e; omega) (fun X Q σ0 hl C E hQ hR hr hnm => ?_)
  subst hl
  rw [show lv_args 0 [rv g a0, .int (iI a1), .int (iI a2)] = [(0, rv g a0), (1, .int (iI a1)), (2, .int (iI a2))] from by simp [lv_args, rv_cat, cat_int, cat_long]]
  show GJ X 3 (xWo g σ0 (cx_s X).heap) Q (j16_copyOfRange a0 a1 a2) 0 [(0, rv g a0), (1, .int (iI a1)), (2, .int (iI a2))] []
  have J10 : ∀ (a0 : Option Nat) (a1 a2 : Int), GJ X 3 (xWo g σ0 (cx_s X).heap) Q (j16_copyOfRange_j10 a0 a1 a2) 10 [(0, rv g a0), (1, .int (iI a1)), (2, .int (iI a2))] [] := by
    intro a0 a1 a2
    unfold j16_copyOfRange_j10
    refine gx_aload_n C dJ16_copyOfRange_10 0 rfl ?_
    refine gj_iload_n C dJ16_copyOfRange_11 1 rfl ?_
    refine gj_iload_n C dJ16_copyOfRange_12 2 rfl ?_
    refine gx_callSR (As := [rv g a0, .int (iI a1), .int (iI a2)]) (rest := []) C E dJ16_copyOfRange_13 (mj16_copyOfRangeByte (cx_l X) g a0 a1 a2) (lw_S q824 q825 q147 q826) hyx_J16_copyOfRangeByte hR (Nat.le_of_ble_eq_true rfl) (by decide) rfl rfl (Nat.zero_le _) (fun v13 => ?_)
    exact gx_aret C hQ hr (Or.inr ⟨_, rfl⟩) dJ16_copyOfRange_16
  unfold j16_copyOfRange
  refine gj_iload_n C dJ16_copyOfRange_0 1 rfl ?_
  refine gj_if_ne (tgt := 10) C dJ16_copyOfRange_1 (by decide) (fun h1 => gj_neg h1 ?_) (fun h1 => gj_pos h1 ?_)
  · exact gj_to [0, 1, 2] (J10 a0 a1 a2) rfl
  · refine gj_iload_n C dJ16_copyOfRange_4 2 rfl ?_
    refine gx_aload_n C dJ16_copyOfRange_5 0 rfl ?_
    refine gx_len C E dJ16_copyOfRange_6 (fun v6 => ?_)
    refine gj_icmp_eq (tgt := 17) C dJ16_copyOfRange_7 (by decide) rfl rfl (fun h7 => gj_pos h7 ?_) (fun h7 => gj_neg h7 ?_)
    · refine gx_aload_n C dJ16_copyOfRange_17 0 rfl ?_
      refine gx_clone C E dJ16_copyOfRange_18 hR (Nat.le_of_ble_eq_true rfl) (Nat.zero_le _) (fun v18 => ?_)
      refine gx_castB C E dJ16_copyOfRange_21 q756 ?_
      exact gx_aret C hQ hr (Or.inr ⟨_, rfl⟩) dJ16_copyOfRange_24
    · exact gj_to [0, 1, 2] (J10 a0 a1 a2) rfl
def j5_init_2_j79 (a0 a3 : Option Nat) (a4 : Int) : PT Hp Unit :=
  pbnd (pzb 1) fun _ =>
  pbnd (xpI a0 28 1 1) fun _ =>
  pbnd (j16_copyOfRange a3 0 (zshl a4 1)) fun v91 =>
  pbnd (xpR a0 28 0 v91) fun _ =>
  pret ()
def j5_init_2 (a0 a1 a2 : Option Nat) : PT Hp Unit :=
  pbnd (xnn a0) fun _ =>
  pbnd (xrecv a1 27) fun _ =>
  pbnd (j13_getValue a1) fun v5 =>
  pbnd (xrecv a1 27) fun _ =>
  pbnd (j14_length a1) fun v10 =>
  pbnd (xrecv a1 27) fun _ =>
  pbnd (j13_isLatin1 a1) fun v16 =>
  pite (w32 v16 = 0) (
    pite (w32 1 = 0) (
      j5_init_2_j79 a0 v5 v10) (
      pbnd (xgI a1 27 2) fun v48 =>
      pite (w32 v48 = 0) (
        j5_init_2_j79 a0 v5 v10) (
        pfail))) (
    pbnd (pzb 0) fun _ =>
    pbnd (xpI a0 28 1 0) fun _ =>
    pbnd (j16_copyOfRange v5 0 v10) fun v32 =>
    pbnd (xpR a0 28 0 v32) fun _ =>
    pret ())
set_option maxHeartbeats 4000000 in
set_option maxRecDepth 100000 in
theorem mj5_init_2 (l : Launch) (g : XG) (a0 a1 a2 : Option Nat) : XMet l g yJ5_init_2 cJ5_init_2 5 (Option.none : Option Jvm.ClassFile.FieldType) (3) [rv g a0, rv g a1, rv g a2] (j5_init_2 a0 a1 a2) rvV := by
  refine gx_start (by decide +kernel) (by have e := lg_sl_len [rv g a0, rv g a1, rv g a2]; simp only [List.map_cons, List.map_nil, List.sum_cons, List.sum_nil, rv_cat, cat_int, cat_long] at e; omega) (fun X Q σ0 hl C E hQ hR hr hnm => ?_)
  subst hl
  rw [show lv_args 0 [rv g a0, rv g a1, rv g a2] = [(0, rv g a0), (1, rv g a1), (2, rv g a2)] from by simp [lv_args, rv_cat, cat_int, cat_long]]
  show GJ X 5 (xWo g σ0 (cx_s X).heap) Q (j5_init_2 a0 a1 a2) 0 [(0, rv g a0), (1, rv g a1), (2, rv g a2)] []
  have J79 : ∀ (a0 a3 : Option Nat) (a4 : Int), GJ X 5 (xWo g σ0 (cx_s X).heap) Q (j5_init_2_j79 a0 a3 a4) 79 [(0, rv g a0), (3, rv g a3), (4, .int (iI a4))] [] := by
    intro a0 a3 a4
    unfold j5_init_2_j79
    refine gx_aload_n C dJ5_init_2_79 0 rfl ?_
    refine gj_iconst C dJ5_init_2_80 ?_
    refine gx_pzb (fun hz81 => ?_)
    refine gx_pI (O := "java/lang/String") (nm := "coder") (ds := "B") (fin := true) (ty := .byte) C E dJ5_init_2_81 (by decide +kernel) (Or.inl q841) (fun _ h => h) (fun _ => ⟨hnm, rfl⟩) (by decide +kernel) (inty_b hz81) ?_
    refine gx_aload_n C dJ5_init_2_84 0 rfl ?_
    refine gx_aload_n C dJ5_init_2_85 1 rfl ?_
    refine gj_iconst C dJ5_init_2_86 ?_
    refine gj_iload C dJ5_init_2_87 2 rfl ?_
    refine gj_iconst C dJ5_init_2_89 ?_
    refine gj_ishl C dJ5_init_2_90 ?_
    refine gx_callSR (As := [rv g a3, .int (iI 0), .int (iI (zshl a4 1))]) (rest := [rv g a0]) C E dJ5_init_2_91 (mj16_copyOfRange (cx_l X) g a3 0 (zshl a4 1)) (lw_S q821 q822 q147 q823) hyx_J16_copyOfRange hR (Nat.le_of_ble_eq_true rfl) (by decide) rfl rfl (by simp only [List.map_cons, List.map_nil, List.sum_cons, List.sum_nil, rv_cat, cat_int, cat_long]; decide) (fun v91 => ?_)
    refine gx_pR (O := "java/lang/String") (nm := "value") (ds := "[B") (fin := true) (ty := (.array .byte)) C E dJ5_init_2_94 (by decide +kernel) (Or.inl q840) (fun _ h => h) (fun _ => ⟨hnm, rfl⟩) (by decide +kernel) (by decide) ?_
    exact gx_vret C hQ hr dJ5_init_2_97
  unfold j5_init_2
  refine gx_aload_n C dJ5_init_2_0 0 rfl ?_
  refine gx_objinit C E dJ5_init_2_1 q806 q180 q181 hR (Nat.le_of_ble_eq_true rfl) (Nat.zero_le _) ?_
  refine gx_aload_n C dJ5_init_2_4 1 rfl ?_
  refine gx_callOR (x := ⟨"java/lang/AbstractStringBuilder", "getValue", "()[B"⟩) (owner := "java/lang/AbstractStringBuilder") (t0 := 27) (As := []) (rest := []) C E rfl dJ5_init_2_5 (mj13_getValue (cx_l X) g a1) q807 q809 q808 q810 q808 q144 q811 q811 hy9_J13_getValue_J14 hR (Nat.le_of_ble_eq_true rfl) (by decide) rfl rfl (Nat.zero_le _) (fun v5 => ?_)
  refine gx_astore_n (L' := [(3, rv g v5), (0, rv g a0), (1, rv g a1), (2, rv g a2)]) C dJ5_init_2_8 (by decide) (by simp [List.filter, rv_cat, cat_int, cat_long, fin4_3]) ?_
  refine gx_aload_n C dJ5_init_2_9 2 rfl ?_
  refine gx_callOI (x := ⟨"java/lang/AbstractStringBuilder", "length", "()I"⟩) (owner := "java/lang/AbstractStringBuilder") (t0 := 27) (As := []) (rest := []) C E rfl dJ5_init_2_10 (mj14_length (cx_l X) g a1) q812 q814 q813 q815 q816 q145 q817 q819 hy9_J13_length_J14 hR (Nat.le_of_ble_eq_true rfl) (by decide) rfl rfl (Nat.zero_le _) (fun v10 => ?_)
  refine gj_istore (L' := [(4, .int (iI v10)), (3, rv g v5), (0, rv g a0), (1, rv g a1), (2, rv g a2)]) C dJ5_init_2_13 (by decide) (by simp [List.filter, rv_cat, cat_int, cat_long, fin4_3]) ?_
  refine gx_aload_n C dJ5_init_2_15 3 rfl ?_
  refine gx_callOI (x := ⟨"java/lang/AbstractStringBuilder", "isLatin1", "()Z"⟩) (owner := "java/lang/AbstractStringBuilder") (t0 := 27) (As := []) (rest := []) C E rfl dJ5_init_2_16 (mj13_isLatin1 (cx_l X) g a1) q820 q763 q762 q764 q762 q144 q765 q765 hy9_J13_isLatin1_J14 hR (Nat.le_of_ble_eq_true rfl) (by decide) rfl rfl (Nat.zero_le _) (fun v16 => ?_)
  refine gj_if_eq (tgt := 41) C dJ5_init_2_19 (by decide) (fun h19 => gj_pos h19 ?_) (fun h19 => gj_neg h19 ?_)
  · refine gx_gsCS C E dJ5_init_2_41 q497 ?_
    refine gj_if_eq (tgt := 79) C dJ5_init_2_44 (by decide) (fun h44 => gj_pos h44 ?_) (fun h44 => gj_neg h44 ?_)
    · exact gj_to [2, 1, 0] (J79 a0 v5 v10) rfl
    · refine gx_aload_n C dJ5_init_2_47 3 rfl ?_
      refine gx_gI (O := "java/lang/AbstractStringBuilder") (nm := "maybeLatin1") (ds := "Z") (fin := false) C E dJ5_init_2_48 (by decide +kernel) (Or.inl q712) (fun _ h => h) (fun v48 => ?_)
      refine gj_if_eq (tgt := 79) C dJ5_init_2_51 (by decide) (fun h51 => gj_pos h51 ?_) (fun h51 => gj_neg h51 ?_)
      · exact gj_to [2, 1, 0] (J79 a0 v5 v10) rfl
      · refine gx_aload_n C dJ5_init_2_54 2 rfl ?_
        refine gx_aload_n C dJ5_init_2_55 1 rfl ?_
        refine gj_iconst C dJ5_init_2_56 ?_
        refine gj_iload C dJ5_init_2_57 0 rfl ?_
        exact gj_fail
  · refine gx_aload_n C dJ5_init_2_22 2 rfl ?_
    refine gj_iconst C dJ5_init_2_23 ?_
    refine gx_pzb (fun hz24 => ?_)
    refine gx_pI (O := "java/lang/String") (nm := "coder") (ds := "B") (fin := true) (ty := .byte) C E dJ5_init_2_24 (by decide +kernel) (Or.inl q841) (fun _ h => h) (fun _ => ⟨hnm, rfl⟩) (by decide +kernel) (inty_b hz24) ?_
    refine gx_aload_n C dJ5_init_2_27 2 rfl ?_
    refine gx_aload_n C dJ5_init_2_28 1 rfl ?_
    refine gj_iconst C dJ5_init_2_29 ?_
    refine gj_iload C dJ5_init_2_30 0 rfl ?_
    refine gx_callSR (As := [rv g v5, .int (iI 0), .int (iI v10)]) (rest := [rv g a0]) C E dJ5_init_2_32 (mj16_copyOfRange (cx_l X) g v5 0 v10) (lw_S q821 q822 q147 q823) hyx_J16_copyOfRange hR (Nat.le_of_ble_eq_true rfl) (by decide) rfl rfl (by simp only [List.map_cons, List.map_nil, List.sum_cons, List.sum_nil, rv_cat, cat_int, cat_long]; decide) (fun v32 => ?_)
    refine gx_pR (O := "java/lang/String") (nm := "value") (ds := "[B") (fin := true) (ty := (.array .byte)) C E dJ5_init_2_35 (by decide +kernel) (Or.inl q840) (fun _ h => h) (fun _ => ⟨hnm, rfl⟩) (by decide +kernel) (by decide) ?_
    refine gj_goto (tgt := 97) C dJ5_init_2_38 (by decide) ?_
    exact gx_vret C hQ hr dJ5_init_2_97
def j5_init (a0 a1 : Option Nat) : PT Hp Unit :=
  pbnd (xnn a0) fun _ =>
  pbnd (j5_init_2 a0 a1 none) fun _ =>
  pret ()
set_option maxHeartbeats 4000000 in
set_option maxRecDepth 100000 in
theorem mj5_init (l : Launch) (g : XG) (a0 a1 : Option Nat) : XMet l g yJ5_init cJ5_init 2 (Option.none : Option Jvm.ClassFile.FieldType) (4) [rv g a0, rv g a1] (j5_init a0 a1) rvV := by
  refine gx_start (by decide +kernel) (by have e := lg_sl_len [rv g a0, rv g a1]; simp only [List.map_cons, List.map_nil, List.sum_cons, List.sum_nil, rv_cat, cat_int, cat_long] at e; omega) (fun X Q σ0 hl C E hQ hR hr hnm => ?_)
  subst hl
  rw [show lv_args 0 [rv g a0, rv g a1] = [(0, rv g a0), (1, rv g a1)] from by simp [lv_args, rv_cat, cat_int, cat_long]]
  show GJ X 2 (xWo g σ0 (cx_s X).heap) Q (j5_init a0 a1) 0 [(0, rv g a0), (1, rv g a1)] []
  unfold j5_init
  refine gx_aload_n C dJ5_init_0 0 rfl ?_
  refine gx_aload_n C dJ5_init_1 1 rfl ?_
  refine gx_null C dJ5_init_2 ?_
  refine gx_callIV (As := [rv g a1, rv g none]) (rest := []) C E dJ5_init_3 (mj5_init_2 (cx_l X) g a0 a1 none) (lw_meth q805) q135 q803 q804 rfl hyx_J5_init_2 hR (Nat.le_of_ble_eq_true rfl) (by decide) rfl rfl (Nat.zero_le _) ?_
  exact gx_vret C hQ hr dJ5_init_6
def j14_toString (a0 : Option Nat) : PT Hp (Option Nat) :=
  pbnd (xnew 28) fun v0 =>
  pbnd (xnn v0) fun _ =>
  pbnd (j5_init v0 a0) fun _ =>
  pret v0
set_option maxHeartbeats 4000000 in
set_option maxRecDepth 100000 in
theorem mj14_toString (l : Launch) (g : XG) (a0 : Option Nat) : XMet l g yJ14_toString cJ14_toString 1 (Option.some (Jvm.ClassFile.FieldType.object "java/lang/String")) (5) [rv g a0] (j14_toString a0) (rvR g) := by
  refine gx_start (by decide +kernel) (by have e := lg_sl_len [rv g a0]; simp only [List.map_cons, List.map_nil, List.sum_cons, List.sum_nil, rv_cat, cat_int, cat_long] at e; omega) (fun X Q σ0 hl C E hQ hR hr hnm => ?_)
  subst hl
  rw [show lv_args 0 [rv g a0] = [(0, rv g a0)] from by simp [lv_args, rv_cat, cat_int, cat_long]]
  show GJ X 1 (xWo g σ0 (cx_s X).heap) Q (j14_toString a0) 0 [(0, rv g a0)] []
  unfold j14_toString
  refine gx_new (t0 := 28) C E dJ14_toString_0 rfl q798 q799 q135 (fun v0 => ?_)
  refine gx_dup C dJ14_toString_3 ?_
  refine gx_aload_n C dJ14_toString_4 0 rfl ?_
  refine gx_callIV (As := [rv g a0]) (rest := [rv g v0]) C E dJ14_toString_5 (mj5_init (cx_l X) g v0 a0) (lw_meth q802) q135 q800 q801 rfl hyx_J5_init hR (Nat.le_of_ble_eq_true rfl) (by decide) rfl rfl (by simp only [List.map_cons, List.map_nil, List.sum_cons, List.sum_nil, rv_cat, cat_int, cat_long]; decide) ?_
  exact gx_aret C hQ hr (Or.inl ⟨_, rfl⟩) dJ14_toString_8
def x2_name_j17 (a0 : Option Nat) : XT Hp (Option Nat) :=
  pbnd (xrecv a0 2) fun _ =>
  pbnd (x2_wrong a0 1) fun v19 =>
  xthrow v19
def x2_name_b38 (a0 a1 : Option Nat) (a2 : Int) (bk38 : (Int) → XT Hp (Option Nat)) : XT Hp (Option Nat) :=
  pbnd (xgI a0 2 2) fun v40 =>
  pite (w32 a2 < w32 v40) (
    pbnd (xgR a0 2 0) fun v48 =>
    pbnd (xld v48 43 a2) fun v52 =>
    pbnd (xrecv a1 27) fun _ =>
    pbnd (j14_append a1 (zi2c v52)) fun v54 =>
    bk38 (a2 + 1)) (
    pbnd (xrecv a1 27) fun _ =>
    pbnd (j14_toString a1) fun v65 =>
    xret v65)
def x2_name_l38 (a0 a1 : Option Nat) (a2 : Int) : XT Hp (Option Nat) :=
  ploop (fun (s : (Int)) bk38 => x2_name_b38 a0 a1 s bk38) (a2)
def x2_name (a0 : Option Nat) : XT Hp (Option Nat) :=
  pbnd (xgI a0 2 3) fun v1 =>
  pite (w32 v1 = 1) (
    pbnd (xrecv a0 2) fun _ =>
    pbnd (x2_which a0 (some (CB + 2))) fun v11 =>
    pite (w32 v11 < 0) (
      pbnd (xnew 27) fun v23 =>
      pbnd (xnn v23) fun _ =>
      pbnd (j14_init v23 8) fun _ =>
      pbnd (xgI a0 2 4) fun v34 =>
      x2_name_l38 a0 v23 v34) (
      x2_name_j17 a0)) (
    x2_name_j17 a0)
set_option maxHeartbeats 4000000 in
set_option maxRecDepth 100000 in
theorem mx2_name (l : Launch) (g : XG) (a0 : Option Nat) : XMetX l g RX6 yX2_name cX2_name 3 (Option.some (Jvm.ClassFile.FieldType.object "java/lang/String")) (6) [rv g a0] (x2_name a0) (rvR g) := by
  refine gy_start (by decide +kernel) (by have e := lg_sl_len [rv g a0]; simp only [List.map_cons, List.map_nil, List.sum_cons, List.sum_nil, rv_cat, cat_int, cat_long] at e; omega) (fun X Q σ0 hl C E hQ hR hr hX => ?_)
  subst hl
  rw [show lv_args 0 [rv g a0] = [(0, rv g a0)] from by simp [lv_args, rv_cat, cat_int, cat_long]]
  show GJ X 3 (xWo g σ0 (cx_s X).heap) Q (x2_name a0) 0 [(0, rv g a0)] []
  have J17 : ∀ (a0 : Option Nat), GJ X 3 (xWo g σ0 (cx_s X).heap) Q (x2_name_j17 a0) 17 [(0, rv g a0)] [] := by
    intro a0
    unfold x2_name_j17
    refine gx_aload_n C dX2_name_17 0 rfl ?_
    refine gj_iconst C dX2_name_18 ?_
    refine gx_callVR (t0 := 2) (As := [.int (iI 1)]) (rest := []) C E rfl dX2_name_19 (mx2_wrong (cx_l X) g a0 1) (lw_V q602 q604 qs4 q126 q605) hyx_X2_wrong rfl hR (Nat.le_of_ble_eq_true rfl) (by decide) rfl rfl (Nat.zero_le _) (fun v19 => ?_)
    exact gy_athrow C E hX hQ dX2_name_22
  have J38 : ∀ (a0 a1 : Option Nat) (a2 : Int), GJ X 3 (xWo g σ0 (cx_s X).heap) Q (x2_name_l38 a0 a1 a2) 38 [(0, rv g a0), (1, rv g a1), (2, .int (iI a2))] [] := by
    intro a0 a1 a2
    unfold x2_name_l38
    refine gj_loop (fun (s : (Int)) => [(0, rv g a0), (1, rv g a1), (2, .int (iI s))]) (a2) (fun bk38 hb38 s => ?_)
    obtain ⟨a2, rfl⟩ : ∃ z, z = s := ⟨s, rfl⟩
    show GJ X 3 (xWo g σ0 (cx_s X).heap) Q (x2_name_b38 a0 a1 a2 bk38) 38 [(0, rv g a0), (1, rv g a1), (2, .int (iI a2))] []
    unfold x2_name_b38
    refine gj_iload_n C dX2_name_38 2 rfl ?_
    refine gx_aload_n C dX2_name_39 0 rfl ?_
    refine gx_gI (O := "BorrowedLives$Reader") (nm := "to") (ds := "I") (fin := false) C E dX2_name_40 (by decide +kernel) (Or.inl q190) (fun _ h => h) (fun v40 => ?_)
    refine gj_icmp_ge (tgt := 64) C dX2_name_43 (by decide) rfl rfl (fun h43 => gj_neg h43 ?_) (fun h43 => gj_pos h43 ?_)
    · refine gx_aload_n C dX2_name_64 1 rfl ?_
      refine gx_callVR (t0 := 27) (As := []) (rest := []) C E rfl dX2_name_65 (mj14_toString (cx_l X) g a1) (lw_V q794 q795 q796 q145 q797) hyx_J14_toString rfl hR (Nat.le_of_ble_eq_true rfl) (by decide) rfl rfl (Nat.zero_le _) (fun v65 => ?_)
      exact gy_aret C hQ hr (Or.inl ⟨_, rfl⟩) dX2_name_68
    · refine gx_aload_n C dX2_name_46 1 rfl ?_
      refine gx_aload_n C dX2_name_47 0 rfl ?_
      refine gx_gR (O := "BorrowedLives$Reader") (nm := "text") (ds := "[B") (fin := false) C E dX2_name_48 (by decide +kernel) (Or.inl q188) (fun _ h => h) (fun v48 => ?_)
      refine gj_iload_n C dX2_name_51 2 rfl ?_
      refine gx_bald C E dX2_name_52 (fun v52 => ?_)
      refine gj_i2c C dX2_name_53 ?_
      refine gx_callVR (t0 := 27) (As := [.int (iI (zi2c v52))]) (rest := []) C E rfl dX2_name_54 (mj14_append (cx_l X) g a1 (zi2c v52)) (lw_V q723 q724 q725 q145 q726) hyx_J14_append rfl hR (Nat.le_of_ble_eq_true rfl) (by decide) rfl rfl (Nat.zero_le _) (fun v54 => ?_)
      refine gj_pop C dX2_name_57 (rv_cat _ _) ?_
      refine gj_iinc (L' := [(2, .int (iI ((a2 + 1)))), (0, rv g a0), (1, rv g a1)]) C dX2_name_58 2 rfl (by decide) (by simp [List.filter, rv_cat, cat_int, cat_long, fin4_3]) ?_
      refine gj_goto (tgt := 38) C dX2_name_61 (by decide) ?_
      exact gj_to [1, 2, 0] (hb38 (a2 + 1)) rfl
  unfold x2_name
  refine gx_aload_n C dX2_name_0 0 rfl ?_
  refine gx_gI (O := "BorrowedLives$Reader") (nm := "kind") (ds := "I") (fin := false) C E dX2_name_1 (by decide +kernel) (Or.inl q191) (fun _ h => h) (fun v1 => ?_)
  refine gj_iconst C dX2_name_4 ?_
  refine gj_icmp_ne (tgt := 17) (b' := 1) C dX2_name_5 (by decide) rfl (by decide) (fun h5 => gj_neg h5 ?_) (fun h5 => gj_pos h5 ?_)
  · exact gj_to [0] (J17 a0) rfl
  · refine gx_aload_n C dX2_name_8 0 rfl ?_
    refine gx_ldcS C E 2 (by decide) rfl dX2_name_9 ?_
    refine gx_callVI (t0 := 2) (As := [rv g ((some (CB + 2)))]) (rest := []) C E rfl dX2_name_11 (mx2_which (cx_l X) g a0 (some (CB + 2))) (lw_V q578 q580 qs3 q126 q581) hyx_X2_which rfl hR (Nat.le_of_ble_eq_true rfl) (by decide) rfl rfl (Nat.zero_le _) (fun v11 => ?_)
    refine gj_if_lt (tgt := 23) C dX2_name_14 (by decide) (fun h14 => gj_pos h14 ?_) (fun h14 => gj_neg h14 ?_)
    · refine gx_new (t0 := 27) C E dX2_name_23 rfl q693 q694 q145 (fun v23 => ?_)
      refine gx_dup C dX2_name_26 ?_
      refine gj_bipush C dX2_name_27 rfl ?_
      refine gx_callIV (As := [.int (iI 8)]) (rest := [rv g v23]) C E dX2_name_29 (mj14_init (cx_l X) g v23 8) (lw_meth q697) q145 q695 q696 rfl hyx_J14_init hR (Nat.le_of_ble_eq_true rfl) (by decide) rfl rfl (by simp only [List.map_cons, List.map_nil, List.sum_cons, List.sum_nil, rv_cat, cat_int, cat_long]; decide) ?_
      refine gx_astore_n (L' := [(1, rv g v23), (0, rv g a0)]) C dX2_name_32 (by decide) (by simp [List.filter, rv_cat, cat_int, cat_long, fin4_3]) ?_
      refine gx_aload_n C dX2_name_33 1 rfl ?_
      refine gx_gI (O := "BorrowedLives$Reader") (nm := "from") (ds := "I") (fin := false) C E dX2_name_34 (by decide +kernel) (Or.inl q192) (fun _ h => h) (fun v34 => ?_)
      refine gj_istore_n (L' := [(2, .int (iI v34)), (1, rv g v23), (0, rv g a0)]) C dX2_name_37 (by decide) (by simp [List.filter, rv_cat, cat_int, cat_long, fin4_3]) ?_
      exact gj_to [2, 1, 0] (J38 a0 v23 v34) rfl
    · exact gj_to [0] (J17 a0) rfl
def j6_equals_b9 (a0 a1 : Option Nat) (a2 : Int) (bk9 : (Int) → PT Hp Int) : PT Hp Int :=
  pbnd (xlen a0) fun v11 =>
  pite (w32 a2 < w32 v11) (
    pbnd (xld a0 43 a2) fun v17 =>
    pbnd (xld a1 43 a2) fun v20 =>
    pite (w32 v17 = w32 v20) (
      bk9 (a2 + 1)) (
      pbnd (pzo 0) fun _ => pret 0)) (
    pbnd (pzo 1) fun _ => pret 1)
def j6_equals_l9 (a0 a1 : Option Nat) (a2 : Int) : PT Hp Int :=
  ploop (fun (s : (Int)) bk9 => j6_equals_b9 a0 a1 s bk9) (a2)
def j6_equals (a0 a1 : Option Nat) : PT Hp Int :=
  pbnd (xlen a0) fun v1 =>
  pbnd (xlen a1) fun v3 =>
  pite (w32 v1 = w32 v3) (
    j6_equals_l9 a0 a1 0) (
    pbnd (pzo 0) fun _ => pret 0)
set_option maxHeartbeats 4000000 in
set_option maxRecDepth 100000 in
theorem mj6_equals (l : Launch) (g : XG) (a0 a1 : Option Nat) : XMet l g yJ6_equals cJ6_equals 3 (Option.some Jvm.ClassFile.FieldType.boolean) (0) [rv g a0, rv g a1] (j6_equals a0 a1) rvI := by
  refine gx_start (by decide +kernel) (by have e := lg_sl_len [rv g a0, rv g a1]; simp only [List.map_cons, List.map_nil, List.sum_cons, List.sum_nil, rv_cat, cat_int, cat_long] at e; omega) (fun X Q σ0 hl C E hQ hR hr hnm => ?_)
  subst hl
  rw [show lv_args 0 [rv g a0, rv g a1] = [(0, rv g a0), (1, rv g a1)] from by simp [lv_args, rv_cat, cat_int, cat_long]]
  show GJ X 3 (xWo g σ0 (cx_s X).heap) Q (j6_equals a0 a1) 0 [(0, rv g a0), (1, rv g a1)] []
  have J9 : ∀ (a0 a1 : Option Nat) (a2 : Int), GJ X 3 (xWo g σ0 (cx_s X).heap) Q (j6_equals_l9 a0 a1 a2) 9 [(0, rv g a0), (1, rv g a1), (2, .int (iI a2))] [] := by
    intro a0 a1 a2
    unfold j6_equals_l9
    refine gj_loop (fun (s : (Int)) => [(0, rv g a0), (1, rv g a1), (2, .int (iI s))]) (a2) (fun bk9 hb9 s => ?_)
    obtain ⟨a2, rfl⟩ : ∃ z, z = s := ⟨s, rfl⟩
    show GJ X 3 (xWo g σ0 (cx_s X).heap) Q (j6_equals_b9 a0 a1 a2 bk9) 9 [(0, rv g a0), (1, rv g a1), (2, .int (iI a2))] []
    unfold j6_equals_b9
    refine gj_iload_n C dJ6_equals_9 2 rfl ?_
    refine gx_aload_n C dJ6_equals_10 0 rfl ?_
    refine gx_len C E dJ6_equals_11 (fun v11 => ?_)
    refine gj_icmp_ge (tgt := 32) C dJ6_equals_12 (by decide) rfl rfl (fun h12 => gj_neg h12 ?_) (fun h12 => gj_pos h12 ?_)
    · refine gj_iconst C dJ6_equals_32 ?_
      exact gx_zret C hQ hr dJ6_equals_33
    · refine gx_aload_n C dJ6_equals_15 0 rfl ?_
      refine gj_iload_n C dJ6_equals_16 2 rfl ?_
      refine gx_bald C E dJ6_equals_17 (fun v17 => ?_)
      refine gx_aload_n C dJ6_equals_18 1 rfl ?_
      refine gj_iload_n C dJ6_equals_19 2 rfl ?_
      refine gx_bald C E dJ6_equals_20 (fun v20 => ?_)
      refine gj_icmp_eq (tgt := 26) C dJ6_equals_21 (by decide) rfl rfl (fun h21 => gj_pos h21 ?_) (fun h21 => gj_neg h21 ?_)
      · refine gj_iinc (L' := [(2, .int (iI ((a2 + 1)))), (0, rv g a0), (1, rv g a1)]) C dJ6_equals_26 2 rfl (by decide) (by simp [List.filter, rv_cat, cat_int, cat_long, fin4_3]) ?_
        refine gj_goto (tgt := 9) C dJ6_equals_29 (by decide) ?_
        exact gj_to [1, 2, 0] (hb9 (a2 + 1)) rfl
      · refine gj_iconst C dJ6_equals_24 ?_
        exact gx_zret C hQ hr dJ6_equals_25
  unfold j6_equals
  refine gx_aload_n C dJ6_equals_0 0 rfl ?_
  refine gx_len C E dJ6_equals_1 (fun v1 => ?_)
  refine gx_aload_n C dJ6_equals_2 1 rfl ?_
  refine gx_len C E dJ6_equals_3 (fun v3 => ?_)
  refine gj_icmp_ne (tgt := 34) C dJ6_equals_4 (by decide) rfl rfl (fun h4 => gj_neg h4 ?_) (fun h4 => gj_pos h4 ?_)
  · refine gj_iconst C dJ6_equals_34 ?_
    exact gx_zret C hQ hr dJ6_equals_35
  · refine gj_iconst C dJ6_equals_7 ?_
    refine gj_istore_n (L' := [(2, .int (iI 0)), (0, rv g a0), (1, rv g a1)]) C dJ6_equals_8 (by decide) (by simp [List.filter, rv_cat, cat_int, cat_long, fin4_3]) ?_
    exact gj_to [1, 2, 0] (J9 a0 a1 0) rfl
def j5_equals_j36 (a0 a2 : Option Nat) : PT Hp Int :=
  pbnd (xgR a0 28 0) fun v37 =>
  pbnd (xgR a2 28 0) fun v41 =>
  pbnd (j6_equals v37 v41) fun v44 =>
  pite (w32 v44 = 0) (
    pbnd (pzo 0) fun _ => pret 0) (
    pbnd (pzo 1) fun _ => pret 1)
def j5_equals (a0 a1 : Option Nat) : PT Hp Int :=
  pbnd (xcmp a0 a1) fun _ =>
  pite (a0 = a1) (
    pbnd (pzo 1) fun _ => pret 1) (
    pbnd (xrecv a1 28) fun _ =>
    pite (w32 1 = 0) (
      pbnd (pzo 0) fun _ => pret 0) (
      pbnd (xcast a1 [28]) fun _ =>
      pite (w32 1 = 0) (
        j5_equals_j36 a0 a1) (
        pbnd (xgI a0 28 1) fun v26 =>
        pbnd (xgI a1 28 1) fun v30 =>
        pite (w32 v26 = w32 v30) (
          j5_equals_j36 a0 a1) (
          pbnd (pzo 0) fun _ => pret 0))))
set_option maxHeartbeats 4000000 in
set_option maxRecDepth 100000 in
theorem mj5_equals (l : Launch) (g : XG) (a0 a1 : Option Nat) : XMet l g yJ5_equals cJ5_equals 3 (Option.some Jvm.ClassFile.FieldType.boolean) (1) [rv g a0, rv g a1] (j5_equals a0 a1) rvI := by
  refine gx_start (by decide +kernel) (by have e := lg_sl_len [rv g a0, rv g a1]; simp only [List.map_cons, List.map_nil, List.sum_cons, List.sum_nil, rv_cat, cat_int, cat_long] at e; omega) (fun X Q σ0 hl C E hQ hR hr hnm => ?_)
  subst hl
  rw [show lv_args 0 [rv g a0, rv g a1] = [(0, rv g a0), (1, rv g a1)] from by simp [lv_args, rv_cat, cat_int, cat_long]]
  show GJ X 3 (xWo g σ0 (cx_s X).heap) Q (j5_equals a0 a1) 0 [(0, rv g a0), (1, rv g a1)] []
  have J36 : ∀ (a0 a2 : Option Nat), GJ X 3 (xWo g σ0 (cx_s X).heap) Q (j5_equals_j36 a0 a2) 36 [(0, rv g a0), (2, rv g a2)] [] := by
    intro a0 a2
    unfold j5_equals_j36
    refine gx_aload_n C dJ5_equals_36 0 rfl ?_
    refine gx_gR (O := "java/lang/String") (nm := "value") (ds := "[B") (fin := true) C E dJ5_equals_37 (by decide +kernel) (Or.inl q840) (fun _ h => h) (fun v37 => ?_)
    refine gx_aload_n C dJ5_equals_40 1 rfl ?_
    refine gx_gR (O := "java/lang/String") (nm := "value") (ds := "[B") (fin := true) C E dJ5_equals_41 (by decide +kernel) (Or.inl q840) (fun _ h => h) (fun v41 => ?_)
    refine gx_callSI (As := [rv g v37, rv g v41]) (rest := []) C E dJ5_equals_44 (mj6_equals (cx_l X) g v37 v41) (lw_S q863 q864 q136 q865) hyx_J6_equals hR (Nat.le_of_ble_eq_true rfl) (by decide) rfl rfl (Nat.zero_le _) (fun v44 => ?_)
    refine gj_if_eq (tgt := 54) C dJ5_equals_47 (by decide) (fun h47 => gj_pos h47 ?_) (fun h47 => gj_neg h47 ?_)
    · refine gj_iconst C dJ5_equals_54 ?_
      exact gx_zret C hQ hr dJ5_equals_55
    · refine gj_iconst C dJ5_equals_50 ?_
      refine gj_goto (tgt := 55) C dJ5_equals_51 (by decide) ?_
      exact gx_zret C hQ hr dJ5_equals_55
  unfold j5_equals
  refine gx_aload_n C dJ5_equals_0 0 rfl ?_
  refine gx_aload_n C dJ5_equals_1 1 rfl ?_
  refine gx_acmp_ne (tgt := 7) C dJ5_equals_2 (by decide) (fun h2 => gj_neg h2 ?_) (fun h2 => gj_pos h2 ?_)
  · refine gx_aload_n C dJ5_equals_7 1 rfl ?_
    refine gx_inst (t0 := 28) C E rfl rfl dJ5_equals_8 q862 ?_
    refine gj_if_eq (tgt := 54) C dJ5_equals_11 (by decide) (fun h11 => gj_pos h11 ?_) (fun h11 => gj_neg h11 ?_)
    · refine gj_iconst C dJ5_equals_54 ?_
      exact gx_zret C hQ hr dJ5_equals_55
    · refine gx_aload_n C dJ5_equals_14 1 rfl ?_
      refine gx_cast C E dJ5_equals_15 q862 xc_java_lang_String ?_
      refine gx_astore_n (L' := [(2, rv g a1), (0, rv g a0), (1, rv g a1)]) C dJ5_equals_18 (by decide) (by simp [List.filter, rv_cat, cat_int, cat_long, fin4_3]) ?_
      refine gx_gsCS C E dJ5_equals_19 q497 ?_
      refine gj_if_eq (tgt := 36) C dJ5_equals_22 (by decide) (fun h22 => gj_pos h22 ?_) (fun h22 => gj_neg h22 ?_)
      · exact gj_to [1, 0] (J36 a0 a1) rfl
      · refine gx_aload_n C dJ5_equals_25 1 rfl ?_
        refine gx_gI (O := "java/lang/String") (nm := "coder") (ds := "B") (fin := true) C E dJ5_equals_26 (by decide +kernel) (Or.inl q841) (fun _ h => h) (fun v26 => ?_)
        refine gx_aload_n C dJ5_equals_29 0 rfl ?_
        refine gx_gI (O := "java/lang/String") (nm := "coder") (ds := "B") (fin := true) C E dJ5_equals_30 (by decide +kernel) (Or.inl q841) (fun _ h => h) (fun v30 => ?_)
        refine gj_icmp_ne (tgt := 54) C dJ5_equals_33 (by decide) rfl rfl (fun h33 => gj_neg h33 ?_) (fun h33 => gj_pos h33 ?_)
        · refine gj_iconst C dJ5_equals_54 ?_
          exact gx_zret C hQ hr dJ5_equals_55
        · exact gj_to [1, 0] (J36 a0 a1) rfl
  · refine gj_iconst C dJ5_equals_5 ?_
    exact gx_zret C hQ hr dJ5_equals_6
def x3_person_b2 (a0 a1 : Option Nat) (a2 : Int) (bk2 : (Int) → PT Hp Int) : PT Hp Int :=
  pbnd (xgR a0 3 0) fun v4 =>
  pbnd (xrecv v4 26) fun _ =>
  pbnd (j2_size v4) fun v7 =>
  pite (w32 a2 < w32 v7) (
    pbnd (xgR a0 3 0) fun v14 =>
    pbnd (xrecv v14 26) fun _ =>
    pbnd (j2_get v14 a2) fun v18 =>
    pbnd (xcast v18 [6, 7, 8, 9]) fun _ =>
    pbnd (xgRs v18 [6, 7, 8, 9] 0) fun v24 =>
    pbnd (xrecv v24 28) fun _ =>
    pbnd (j5_equals v24 a1) fun v28 =>
    pite (w32 v28 = 0) (
      bk2 (a2 + 1)) (
      pret (w32 a2))) (
    pret (-1))
def x3_person_l2 (a0 a1 : Option Nat) (a2 : Int) : PT Hp Int :=
  ploop (fun (s : (Int)) bk2 => x3_person_b2 a0 a1 s bk2) (a2)
def x3_person (a0 a1 : Option Nat) : PT Hp Int :=
  x3_person_l2 a0 a1 0
set_option maxHeartbeats 4000000 in
set_option maxRecDepth 100000 in
theorem mx3_person (l : Launch) (g : XG) (a0 a1 : Option Nat) : XMet l g yX3_person cX3_person 3 (Option.some Jvm.ClassFile.FieldType.int) (3) [rv g a0, rv g a1] (x3_person a0 a1) rvI := by
  refine gx_start (by decide +kernel) (by have e := lg_sl_len [rv g a0, rv g a1]; simp only [List.map_cons, List.map_nil, List.sum_cons, List.sum_nil, rv_cat, cat_int, cat_long] at e; omega) (fun X Q σ0 hl C E hQ hR hr hnm => ?_)
  subst hl
  rw [show lv_args 0 [rv g a0, rv g a1] = [(0, rv g a0), (1, rv g a1)] from by simp [lv_args, rv_cat, cat_int, cat_long]]
  show GJ X 3 (xWo g σ0 (cx_s X).heap) Q (x3_person a0 a1) 0 [(0, rv g a0), (1, rv g a1)] []
  have J2 : ∀ (a0 a1 : Option Nat) (a2 : Int), GJ X 3 (xWo g σ0 (cx_s X).heap) Q (x3_person_l2 a0 a1 a2) 2 [(0, rv g a0), (1, rv g a1), (2, .int (iI a2))] [] := by
    intro a0 a1 a2
    unfold x3_person_l2
    refine gj_loop (fun (s : (Int)) => [(0, rv g a0), (1, rv g a1), (2, .int (iI s))]) (a2) (fun bk2 hb2 s => ?_)
    obtain ⟨a2, rfl⟩ : ∃ z, z = s := ⟨s, rfl⟩
    show GJ X 3 (xWo g σ0 (cx_s X).heap) Q (x3_person_b2 a0 a1 a2 bk2) 2 [(0, rv g a0), (1, rv g a1), (2, .int (iI a2))] []
    unfold x3_person_b2
    refine gj_iload_n C dX3_person_2 2 rfl ?_
    refine gx_aload_n C dX3_person_3 0 rfl ?_
    refine gx_gR (O := "BorrowedLives$Town") (nm := "people") (ds := "Ljava/util/ArrayList;") (fin := true) C E dX3_person_4 (by decide +kernel) (Or.inl q251) (fun _ h => h) (fun v4 => ?_)
    refine gx_callVI (t0 := 26) (As := []) (rest := [.int (iI a2)]) C E rfl dX3_person_7 (mj2_size (cx_l X) g v4) (lw_V q855 q351 q352 q130 q353) hyx_J2_size rfl hR (Nat.le_of_ble_eq_true rfl) (by decide) rfl rfl (Nat.le_of_ble_eq_true rfl) (fun v7 => ?_)
    refine gj_icmp_ge (tgt := 42) C dX3_person_10 (by decide) rfl rfl (fun h10 => gj_neg h10 ?_) (fun h10 => gj_pos h10 ?_)
    · refine gj_iconst C dX3_person_42 ?_
      exact gx_iret C hQ hr dX3_person_43
    · refine gx_aload_n C dX3_person_13 0 rfl ?_
      refine gx_gR (O := "BorrowedLives$Town") (nm := "people") (ds := "Ljava/util/ArrayList;") (fin := true) C E dX3_person_14 (by decide +kernel) (Or.inl q251) (fun _ h => h) (fun v14 => ?_)
      refine gj_iload_n C dX3_person_17 2 rfl ?_
      refine gx_callVR (t0 := 26) (As := [.int (iI a2)]) (rest := []) C E rfl dX3_person_18 (mj2_get (cx_l X) g v14 a2) (lw_V q856 q355 q356 q130 q357) hyx_J2_get rfl hR (Nat.le_of_ble_eq_true rfl) (by decide) rfl rfl (Nat.zero_le _) (fun v18 => ?_)
      refine gx_cast C E dX3_person_21 q857 xc_BorrowedLives_Person ?_
      refine gx_gRs (O := "BorrowedLives$Person") (nm := "name") (ds := "Ljava/lang/String;") (fin := true) C E dX3_person_24 (by decide +kernel) (Or.inl q878) (fun _ h => h) (fun v24 => ?_)
      refine gx_aload_n C dX3_person_27 1 rfl ?_
      refine gx_callVI (t0 := 28) (As := [rv g a1]) (rest := []) C E rfl dX3_person_28 (mj5_equals (cx_l X) g v24 a1) (lw_V q858 q859 q860 q135 q861) hyx_J5_equals rfl hR (Nat.le_of_ble_eq_true rfl) (by decide) rfl rfl (Nat.zero_le _) (fun v28 => ?_)
      refine gj_if_eq (tgt := 36) C dX3_person_31 (by decide) (fun h31 => gj_pos h31 ?_) (fun h31 => gj_neg h31 ?_)
      · refine gj_iinc (L' := [(2, .int (iI ((a2 + 1)))), (0, rv g a0), (1, rv g a1)]) C dX3_person_36 2 rfl (by decide) (by simp [List.filter, rv_cat, cat_int, cat_long, fin4_3]) ?_
        refine gj_goto (tgt := 2) C dX3_person_39 (by decide) ?_
        exact gj_to [1, 2, 0] (hb2 (a2 + 1)) rfl
      · refine gj_iload_n C dX3_person_34 2 rfl ?_
        refine gj_nrmI ?_
        exact gx_iret C hQ hr dX3_person_35
  unfold x3_person
  refine gj_iconst C dX3_person_0 ?_
  refine gj_istore_n (L' := [(2, .int (iI 0)), (0, rv g a0), (1, rv g a1)]) C dX3_person_1 (by decide) (by simp [List.filter, rv_cat, cat_int, cat_long, fin4_3]) ?_
  exact gj_to [1, 2, 0] (J2 a0 a1 0) rfl
