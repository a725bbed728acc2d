/-! THE COMPONENT: its methods as pure programs, and that the machine runs so (X1.hide, X1.draws, X24.init, X1.drawsLot, X1.lot, X1.canSwap, X1.swaps, X1.swap, X1.day, X1.comesHome, X1.home, X1.undo, X17.isDone, X18.isDone, X19.isDone, X20.isDone, X21.isDone, X1.judged, X25.init, X1.least, X26.init, X1.prepare, X1.law, X1.wishOf): printed by genx.py -/
def x1_hide (a0 : Option Nat) (a1 a2 : Int) : PT Hp Int :=
  pbnd (xrecv a0 1) fun _ =>
  pbnd (x1_isPerson a0 a1) fun v2 =>
  pite (w32 v2 = 0) (
    pbnd (pzo 0) fun _ => pret 0) (
    pbnd (x1_in a2 0 999) fun v13 =>
    pite (w32 v13 = 0) (
      pbnd (pzo 0) fun _ => pret 0) (
      pbnd (xgR a0 1 4) fun v20 =>
      pbnd (xgI v20 4 7) fun v23 =>
      pite (w32 v23 = 0) (
        pbnd (xgR a0 1 4) fun v30 =>
        pbnd (xgR v30 4 0) fun v33 =>
        pbnd (xld v33 40 a1) fun v37 =>
        pite (w32 v37 < w32 a2) (
          pbnd (pzo 0) fun _ => pret 0) (
          pbnd (xrecv a0 1) fun _ =>
          pbnd (x1_keeps a0) fun _ =>
          pbnd (xgR a0 1 4) fun v49 =>
          pbnd (xgR v49 4 3) fun v52 =>
          pbnd (xst v52 40 a1 (w32 a2)) fun _ =>
          pbnd (pzo 1) fun _ => pret 1)) (
        pbnd (pzo 0) fun _ => pret 0)))
set_option maxHeartbeats 4000000 in
set_option maxRecDepth 100000 in
theorem mx1_hide (l : Launch) (g : XG) (a0 : Option Nat) (a1 a2 : Int) : XMet l g yX1_hide cX1_hide 3 (Option.some Jvm.ClassFile.FieldType.boolean) (3) [rv g a0, .int (iI a1), .int (iI a2)] (x1_hide a0 a1 a2) rvI := by
  refine gx_start (by decide +kernel) (by have e := lg_sl_len [rv g a0, .int (iI a1), .int (iI a2)]; simp only [List.map_cons, List.map_nil, List.sum_cons, List.sum_nil, rv_cat, cat_int, cat_long] at e; omega) (fun X Q σ0 hl C E hQ hR hr hnm => ?_)
  subst hl
  rw [show lv_args 0 [rv g a0, .int (iI a1), .int (iI a2)] = [(0, rv g a0), (1, .int (iI a1)), (2, .int (iI a2))] from by simp [lv_args, rv_cat, cat_int, cat_long]]
  show GJ X 3 (xWo g σ0 (cx_s X).heap) Q (x1_hide a0 a1 a2) 0 [(0, rv g a0), (1, .int (iI a1)), (2, .int (iI a2))] []
  unfold x1_hide
  refine gx_aload_n C dX1_hide_0 0 rfl ?_
  refine gj_iload_n C dX1_hide_1 1 rfl ?_
  refine gx_callVI (t0 := 1) (As := [.int (iI a1)]) (rest := []) C E rfl dX1_hide_2 (mx1_isPerson (cx_l X) g a0 a1) (lw_V q1188 q1190 qs28 q125 q1191) hyx_X1_isPerson rfl hR (Nat.le_of_ble_eq_true rfl) (by decide) rfl rfl (Nat.zero_le _) (fun v2 => ?_)
  refine gj_if_eq (tgt := 42) C dX1_hide_5 (by decide) (fun h5 => gj_pos h5 ?_) (fun h5 => gj_neg h5 ?_)
  · refine gj_iconst C dX1_hide_42 ?_
    exact gx_zret C hQ hr dX1_hide_43
  · refine gj_iload_n C dX1_hide_8 2 rfl ?_
    refine gj_iconst C dX1_hide_9 ?_
    refine gj_sipush C dX1_hide_10 rfl ?_
    refine gx_callSI (As := [.int (iI a2), .int (iI 0), .int (iI 999)]) (rest := []) C E dX1_hide_13 (mx1_in (cx_l X) g a2 0 999) (lw_S q1197 q1198 q125 q1199) hyx_X1_in hR (Nat.le_of_ble_eq_true rfl) (by decide) rfl rfl (Nat.zero_le _) (fun v13 => ?_)
    refine gj_if_eq (tgt := 42) C dX1_hide_16 (by decide) (fun h16 => gj_pos h16 ?_) (fun h16 => gj_neg h16 ?_)
    · refine gj_iconst C dX1_hide_42 ?_
      exact gx_zret C hQ hr dX1_hide_43
    · refine gx_aload_n C dX1_hide_19 0 rfl ?_
      refine gx_gR (O := "BorrowedLives") (nm := "state") (ds := "LBorrowedLives$State;") (fin := true) C E dX1_hide_20 (by decide +kernel) (Or.inl q380) (fun _ h => h) (fun v20 => ?_)
      refine gx_gI (O := "BorrowedLives$State") (nm := "away") (ds := "Z") (fin := false) C E dX1_hide_23 (by decide +kernel) (Or.inr ⟨_, q309⟩) (fun _ h => h) (fun v23 => ?_)
      refine gj_if_ne (tgt := 42) C dX1_hide_26 (by decide) (fun h26 => gj_neg h26 ?_) (fun h26 => gj_pos h26 ?_)
      · refine gj_iconst C dX1_hide_42 ?_
        exact gx_zret C hQ hr dX1_hide_43
      · refine gx_aload_n C dX1_hide_29 0 rfl ?_
        refine gx_gR (O := "BorrowedLives") (nm := "state") (ds := "LBorrowedLives$State;") (fin := true) C E dX1_hide_30 (by decide +kernel) (Or.inl q380) (fun _ h => h) (fun v30 => ?_)
        refine gx_gR (O := "BorrowedLives$State") (nm := "purse") (ds := "[I") (fin := true) C E dX1_hide_33 (by decide +kernel) (Or.inr ⟨_, q292⟩) (fun _ h => h) (fun v33 => ?_)
        refine gj_iload_n C dX1_hide_36 1 rfl ?_
        refine gx_iald C E dX1_hide_37 (fun v37 => ?_)
        refine gj_iload_n C dX1_hide_38 2 rfl ?_
        refine gj_icmp_ge (tgt := 44) C dX1_hide_39 (by decide) rfl rfl (fun h39 => gj_neg h39 ?_) (fun h39 => gj_pos h39 ?_)
        · refine gx_aload_n C dX1_hide_44 0 rfl ?_
          refine gx_callVV (t0 := 1) (As := []) (rest := []) C E rfl dX1_hide_45 (mx1_keeps (cx_l X) g a0) (lw_V q1448 q1450 qs40 q125 q1451) hyx_X1_keeps rfl hR (Nat.le_of_ble_eq_true rfl) (by decide) rfl rfl (Nat.zero_le _) ?_
          refine gx_aload_n C dX1_hide_48 0 rfl ?_
          refine gx_gR (O := "BorrowedLives") (nm := "state") (ds := "LBorrowedLives$State;") (fin := true) C E dX1_hide_49 (by decide +kernel) (Or.inl q380) (fun _ h => h) (fun v49 => ?_)
          refine gx_gR (O := "BorrowedLives$State") (nm := "hidden") (ds := "[I") (fin := true) C E dX1_hide_52 (by decide +kernel) (Or.inr ⟨_, q299⟩) (fun _ h => h) (fun v52 => ?_)
          refine gj_iload_n C dX1_hide_55 1 rfl ?_
          refine gj_iload_n C dX1_hide_56 2 rfl ?_
          refine gj_nrmI ?_
          refine gx_iast C E dX1_hide_57 ?_
          refine gj_iconst C dX1_hide_58 ?_
          exact gx_zret C hQ hr dX1_hide_59
        · refine gj_iconst C dX1_hide_42 ?_
          exact gx_zret C hQ hr dX1_hide_43
def x1_draws (a0 : Option Nat) (a1 : Int) : PT Hp Int :=
  pbnd (xgI a0 1 12) fun v2 =>
  pbnd (pnzl 2147483648) fun _ =>
  pbnd (xpI a0 1 12 (lrem' ((((v2 * 1103515245)) + 12345)) 2147483648)) fun _ =>
  pbnd (xgI a0 1 12) fun v21 =>
  pbnd (pnzl 65536) fun _ =>
  pbnd (pnzl (zi2l a1)) fun _ =>
  pret (zl2i (lrem' (ldiv' v21 65536) (zi2l a1)))
set_option maxHeartbeats 4000000 in
set_option maxRecDepth 100000 in
theorem mx1_draws (l : Launch) (g : XG) (a0 : Option Nat) (a1 : Int) : XMet l g yX1_draws cX1_draws 2 (Option.some Jvm.ClassFile.FieldType.int) (0) [rv g a0, .int (iI a1)] (x1_draws a0 a1) rvI := by
  refine gx_start (by decide +kernel) (by have e := lg_sl_len [rv g a0, .int (iI a1)]; simp only [List.map_cons, List.map_nil, List.sum_cons, List.sum_nil, rv_cat, cat_int, cat_long] at e; omega) (fun X Q σ0 hl C E hQ hR hr hnm => ?_)
  subst hl
  rw [show lv_args 0 [rv g a0, .int (iI a1)] = [(0, rv g a0), (1, .int (iI a1))] from by simp [lv_args, rv_cat, cat_int, cat_long]]
  show GJ X 2 (xWo g σ0 (cx_s X).heap) Q (x1_draws a0 a1) 0 [(0, rv g a0), (1, .int (iI a1))] []
  unfold x1_draws
  refine gx_aload_n C dX1_draws_0 0 rfl ?_
  refine gx_aload_n C dX1_draws_1 0 rfl ?_
  refine gx_gL (O := "BorrowedLives") (nm := "g") (ds := "J") (fin := false) C E dX1_draws_2 (by decide +kernel) (Or.inl q393) (fun _ h => h) (fun v2 => ?_)
  refine gj_ldc2 (z := 1103515245) C dX1_draws_5 q1467 (by decide) ?_
  refine gj_lmul C dX1_draws_8 ?_
  refine gj_ldc2 (z := 12345) C dX1_draws_9 q1468 (by decide) ?_
  refine gj_ladd C dX1_draws_12 ?_
  refine gj_ldc2 (z := 2147483648) C dX1_draws_13 q1469 (by decide) ?_
  refine gj_nzl (fun hz16 => ?_)
  refine gj_lrem C dX1_draws_16 hz16 ?_
  refine gx_pL (O := "BorrowedLives") (nm := "g") (ds := "J") (fin := false) C E dX1_draws_17 (by decide +kernel) (Or.inl q393) (fun _ h => h) (fun h => by cases h) (by decide +kernel) ?_
  refine gx_aload_n C dX1_draws_20 0 rfl ?_
  refine gx_gL (O := "BorrowedLives") (nm := "g") (ds := "J") (fin := false) C E dX1_draws_21 (by decide +kernel) (Or.inl q393) (fun _ h => h) (fun v21 => ?_)
  refine gj_ldc2 (z := 65536) C dX1_draws_24 q1470 (by decide) ?_
  refine gj_nzl (fun hz27 => ?_)
  refine gj_ldiv C dX1_draws_27 hz27 ?_
  refine gj_iload_n C dX1_draws_28 1 rfl ?_
  refine gj_i2l C dX1_draws_29 ?_
  refine gj_nzl (fun hz30 => ?_)
  refine gj_lrem C dX1_draws_30 hz30 ?_
  refine gj_l2i C dX1_draws_31 ?_
  exact gx_iret C hQ hr dX1_draws_32
def x24_init (a0 a1 : Option Nat) (a2 : Int) : PT Hp Unit :=
  pbnd (xpR a0 20 4 a1) fun _ =>
  pbnd (xnn a0) fun _ =>
  pbnd (x22_init a0 a1) fun _ =>
  pbnd (xnewa 40 6) fun v13 =>
  pbnd (xpR a0 20 3 v13) fun _ =>
  pbnd (xpI a0 20 2 (w32 a2)) fun _ =>
  pret ()
set_option maxHeartbeats 4000000 in
set_option maxRecDepth 100000 in
theorem mx24_init (l : Launch) (g : XG) (a0 a1 : Option Nat) (a2 : Int) : XMet l g yX24_init cX24_init 3 (Option.none : Option Jvm.ClassFile.FieldType) (2) [rv g a0, rv g a1, .int (iI a2)] (x24_init a0 a1 a2) rvV := by
  refine gx_start (by decide +kernel) (by have e := lg_sl_len [rv g a0, rv g a1, .int (iI a2)]; simp only [List.map_cons, List.map_nil, List.sum_cons, List.sum_nil, rv_cat, cat_int, cat_long] at e; omega) (fun X Q σ0 hl C E hQ hR hr hnm => ?_)
  subst hl
  rw [show lv_args 0 [rv g a0, rv g a1, .int (iI a2)] = [(0, rv g a0), (1, rv g a1), (2, .int (iI a2))] from by simp [lv_args, rv_cat, cat_int, cat_long]]
  show GJ X 3 (xWo g σ0 (cx_s X).heap) Q (x24_init a0 a1 a2) 0 [(0, rv g a0), (1, rv g a1), (2, .int (iI a2))] []
  unfold x24_init
  refine gx_aload_n C dX24_init_0 0 rfl ?_
  refine gx_aload_n C dX24_init_1 1 rfl ?_
  refine gx_pR (O := "BorrowedLives$Takes") (nm := "this$0") (ds := "LBorrowedLives;") (fin := true) (ty := (.object "BorrowedLives")) C E dX24_init_2 (by decide +kernel) (Or.inl q1479) (fun _ h => h) (fun _ => ⟨hnm, rfl⟩) (by decide +kernel) (by decide) ?_
  refine gx_aload_n C dX24_init_5 0 rfl ?_
  refine gx_aload_n C dX24_init_6 1 rfl ?_
  refine gx_callINV (As := [rv g a1]) (rest := []) C E dX24_init_7 (mx22_init (cx_l X) g a0 a1) (lw_meth q1257) q164 q1474 q1256 rfl hyx_X22_init hR (Nat.le_of_ble_eq_true rfl) (by decide) rfl rfl (Nat.zero_le _) ?_
  refine gx_aload_n C dX24_init_10 0 rfl ?_
  refine gj_bipush C dX24_init_11 rfl ?_
  refine gx_newa (t0 := 0) C E dX24_init_13 (by decide) rfl q340 (by decide) rfl (fun v13 => ?_)
  refine gx_pR (O := "BorrowedLives$Takes") (nm := "taken") (ds := "[I") (fin := true) (ty := (.array .int)) C E dX24_init_15 (by decide +kernel) (Or.inl q1477) (fun _ h => h) (fun _ => ⟨hnm, rfl⟩) (by decide +kernel) (by decide) ?_
  refine gx_aload_n C dX24_init_18 0 rfl ?_
  refine gj_iload_n C dX24_init_19 2 rfl ?_
  refine gj_nrmI ?_
  refine gx_pI (O := "BorrowedLives$Takes") (nm := "place") (ds := "I") (fin := true) (ty := .int) C E dX24_init_20 (by decide +kernel) (Or.inl q1475) (fun _ h => h) (fun _ => ⟨hnm, rfl⟩) (by decide +kernel) (inty_int _) ?_
  exact gx_vret C hQ hr dX24_init_23
def x1_drawsLot (a0 a1 : Option Nat) : PT Hp Int :=
  pbnd (xrecv a0 1) fun _ =>
  pbnd (x1_lots a0) fun v1 =>
  pite (w32 v1 = 0) (
    pret (-1)) (
    pbnd (xnew 20) fun v11 =>
    pbnd (xrecv a0 1) fun _ =>
    pbnd (x1_draws a0 v1) fun v18 =>
    pbnd (xnn v11) fun _ =>
    pbnd (x24_init v11 a0 v18) fun _ =>
    pbnd (xrecv a0 1) fun _ =>
    pbnd (x1_shows a0 v11) fun _ =>
    pbnd (xgR v11 20 3) fun v32 =>
    pbnd (xrecv a1 4) fun _ =>
    pbnd (x4_goes a1 v32) fun _ =>
    pbnd (xgI v11 20 2) fun v39 =>
    pret v39)
set_option maxHeartbeats 4000000 in
set_option maxRecDepth 100000 in
theorem mx1_drawsLot (l : Launch) (g : XG) (a0 a1 : Option Nat) : XMet l g yX1_drawsLot cX1_drawsLot 4 (Option.some Jvm.ClassFile.FieldType.int) (719) [rv g a0, rv g a1] (x1_drawsLot a0 a1) rvI := by
  refine gx_start (by decide +kernel) (by have e := lg_sl_len [rv g a0, rv g a1]; simp only [List.map_cons, List.map_nil, List.sum_cons, List.sum_nil, rv_cat, cat_int, cat_long] at e; omega) (fun X Q σ0 hl C E hQ hR hr hnm => ?_)
  subst hl
  rw [show lv_args 0 [rv g a0, rv g a1] = [(0, rv g a0), (1, rv g a1)] from by simp [lv_args, rv_cat, cat_int, cat_long]]
  show GJ X 4 (xWo g σ0 (cx_s X).heap) Q (x1_drawsLot a0 a1) 0 [(0, rv g a0), (1, rv g a1)] []
  unfold x1_drawsLot
  refine gx_aload_n C dX1_drawsLot_0 0 rfl ?_
  refine gx_callVI (t0 := 1) (As := []) (rest := []) C E rfl dX1_drawsLot_1 (mx1_lots (cx_l X) g a0) (lw_V q1456 q1247 q1248 q125 q1249) hyx_X1_lots rfl hR (Nat.le_of_ble_eq_true rfl) (by decide) rfl rfl (Nat.zero_le _) (fun v1 => ?_)
  refine gj_istore_n (L' := [(2, .int (iI v1)), (0, rv g a0), (1, rv g a1)]) C dX1_drawsLot_4 (by decide) (by simp [List.filter, rv_cat, cat_int, cat_long, fin4_3]) ?_
  refine gj_iload_n C dX1_drawsLot_5 0 rfl ?_
  refine gj_if_ne (tgt := 11) C dX1_drawsLot_6 (by decide) (fun h6 => gj_neg h6 ?_) (fun h6 => gj_pos h6 ?_)
  · refine gx_new (t0 := 20) C E dX1_drawsLot_11 rfl q1461 q1462 q166 (fun v11 => ?_)
    refine gx_dup C dX1_drawsLot_14 ?_
    refine gx_aload_n C dX1_drawsLot_15 1 rfl ?_
    refine gx_aload_n C dX1_drawsLot_16 1 rfl ?_
    refine gj_iload_n C dX1_drawsLot_17 0 rfl ?_
    refine gx_callVI (t0 := 1) (As := [.int (iI v1)]) (rest := [rv g a0, rv g v11, rv g v11]) C E rfl dX1_drawsLot_18 (mx1_draws (cx_l X) g a0 v1) (lw_V q1463 q1465 qs42 q125 q1466) hyx_X1_draws rfl hR (Nat.le_of_ble_eq_true rfl) (by decide) rfl rfl (by simp only [List.map_cons, List.map_nil, List.sum_cons, List.sum_nil, rv_cat, cat_int, cat_long]; decide) (fun v18 => ?_)
    refine gx_callIV (As := [rv g a0, .int (iI v18)]) (rest := [rv g v11]) C E dX1_drawsLot_21 (mx24_init (cx_l X) g v11 a0 v18) (lw_meth q1473) q166 q1471 q1472 rfl hyx_X24_init hR (Nat.le_of_ble_eq_true rfl) (by decide) rfl rfl (by simp only [List.map_cons, List.map_nil, List.sum_cons, List.sum_nil, rv_cat, cat_int, cat_long]; decide) ?_
    refine gx_astore_n (L' := [(3, _), (2, _), (0, _), (1, _)]) C dX1_drawsLot_24 (by decide) rfl ?_
    refine gx_aload_n C dX1_drawsLot_25 2 rfl ?_
    refine gx_aload_n C dX1_drawsLot_26 0 rfl ?_
    refine gx_callVV (t0 := 1) (As := [rv g v11]) (rest := []) C E rfl dX1_drawsLot_27 (mx1_shows (cx_l X) g a0 v11) (lw_V q1288 q1290 qs32 q125 q1291) hyx_X1_shows rfl hR (Nat.le_of_ble_eq_true rfl) (by decide) rfl rfl (Nat.zero_le _) ?_
    refine gx_aload_n C dX1_drawsLot_30 3 rfl ?_
    refine gx_aload_n C dX1_drawsLot_31 0 rfl ?_
    refine gx_gR (O := "BorrowedLives$Takes") (nm := "taken") (ds := "[I") (fin := true) C E dX1_drawsLot_32 (by decide +kernel) (Or.inr ⟨_, q1478⟩) (fun _ h => h) (fun v32 => ?_)
    refine gx_callVV (t0 := 4) (As := [rv g v32]) (rest := []) C E rfl dX1_drawsLot_35 (mx4_goes (cx_l X) g a1 v32) (lw_V q1313 q1314 q1315 q131 q1316) hyx_X4_goes rfl hR (Nat.le_of_ble_eq_true rfl) (by decide) rfl rfl (Nat.zero_le _) ?_
    refine gx_aload_n C dX1_drawsLot_38 0 rfl ?_
    refine gx_gI (O := "BorrowedLives$Takes") (nm := "place") (ds := "I") (fin := true) C E dX1_drawsLot_39 (by decide +kernel) (Or.inr ⟨_, q1476⟩) (fun _ h => h) (fun v39 => ?_)
    exact gx_iret C hQ hr dX1_drawsLot_42
  · refine gj_iconst C dX1_drawsLot_9 ?_
    exact gx_iret C hQ hr dX1_drawsLot_10
def x1_lot (a0 : Option Nat) (a1 : Int) : PT Hp Int :=
  pbnd (x1_in a1 0 9999) fun v5 =>
  pite (w32 v5 = 0) (
    pret (-1)) (
    pbnd (xgR a0 1 4) fun v12 =>
    pbnd (xgI v12 4 7) fun v15 =>
    pite (w32 v15 = 0) (
      pbnd (xrecv a0 1) fun _ =>
      pbnd (x1_lots a0) fun v22 =>
      pite (w32 v22 = 0) (
        pret (-1)) (
        pbnd (xrecv a0 1) fun _ =>
        pbnd (x1_keeps a0) fun _ =>
        pbnd (xpI a0 1 12 (w64 (zi2l a1))) fun _ =>
        pbnd (xgR a0 1 4) fun v42 =>
        pbnd (xrecv a0 1) fun _ =>
        pbnd (x1_drawsLot a0 v42) fun v45 =>
        pret v45)) (
      pret (-1)))
set_option maxHeartbeats 4000000 in
set_option maxRecDepth 100000 in
theorem mx1_lot (l : Launch) (g : XG) (a0 : Option Nat) (a1 : Int) : XMet l g yX1_lot cX1_lot 2 (Option.some Jvm.ClassFile.FieldType.int) (720) [rv g a0, .int (iI a1)] (x1_lot a0 a1) rvI := by
  refine gx_start (by decide +kernel) (by have e := lg_sl_len [rv g a0, .int (iI a1)]; simp only [List.map_cons, List.map_nil, List.sum_cons, List.sum_nil, rv_cat, cat_int, cat_long] at e; omega) (fun X Q σ0 hl C E hQ hR hr hnm => ?_)
  subst hl
  rw [show lv_args 0 [rv g a0, .int (iI a1)] = [(0, rv g a0), (1, .int (iI a1))] from by simp [lv_args, rv_cat, cat_int, cat_long]]
  show GJ X 2 (xWo g σ0 (cx_s X).heap) Q (x1_lot a0 a1) 0 [(0, rv g a0), (1, .int (iI a1))] []
  unfold x1_lot
  refine gj_iload_n C dX1_lot_0 1 rfl ?_
  refine gj_iconst C dX1_lot_1 ?_
  refine gj_sipush C dX1_lot_2 rfl ?_
  refine gx_callSI (As := [.int (iI a1), .int (iI 0), .int (iI 9999)]) (rest := []) C E dX1_lot_5 (mx1_in (cx_l X) g a1 0 9999) (lw_S q1197 q1198 q125 q1199) hyx_X1_in hR (Nat.le_of_ble_eq_true rfl) (by decide) rfl rfl (Nat.zero_le _) (fun v5 => ?_)
  refine gj_if_eq (tgt := 28) C dX1_lot_8 (by decide) (fun h8 => gj_pos h8 ?_) (fun h8 => gj_neg h8 ?_)
  · refine gj_iconst C dX1_lot_28 ?_
    exact gx_iret C hQ hr dX1_lot_29
  · refine gx_aload_n C dX1_lot_11 0 rfl ?_
    refine gx_gR (O := "BorrowedLives") (nm := "state") (ds := "LBorrowedLives$State;") (fin := true) C E dX1_lot_12 (by decide +kernel) (Or.inl q380) (fun _ h => h) (fun v12 => ?_)
    refine gx_gI (O := "BorrowedLives$State") (nm := "away") (ds := "Z") (fin := false) C E dX1_lot_15 (by decide +kernel) (Or.inr ⟨_, q309⟩) (fun _ h => h) (fun v15 => ?_)
    refine gj_if_ne (tgt := 28) C dX1_lot_18 (by decide) (fun h18 => gj_neg h18 ?_) (fun h18 => gj_pos h18 ?_)
    · refine gj_iconst C dX1_lot_28 ?_
      exact gx_iret C hQ hr dX1_lot_29
    · refine gx_aload_n C dX1_lot_21 0 rfl ?_
      refine gx_callVI (t0 := 1) (As := []) (rest := []) C E rfl dX1_lot_22 (mx1_lots (cx_l X) g a0) (lw_V q1456 q1247 q1248 q125 q1249) hyx_X1_lots rfl hR (Nat.le_of_ble_eq_true rfl) (by decide) rfl rfl (Nat.zero_le _) (fun v22 => ?_)
      refine gj_if_ne (tgt := 30) C dX1_lot_25 (by decide) (fun h25 => gj_neg h25 ?_) (fun h25 => gj_pos h25 ?_)
      · refine gx_aload_n C dX1_lot_30 0 rfl ?_
        refine gx_callVV (t0 := 1) (As := []) (rest := []) C E rfl dX1_lot_31 (mx1_keeps (cx_l X) g a0) (lw_V q1448 q1450 qs40 q125 q1451) hyx_X1_keeps rfl hR (Nat.le_of_ble_eq_true rfl) (by decide) rfl rfl (Nat.zero_le _) ?_
        refine gx_aload_n C dX1_lot_34 0 rfl ?_
        refine gj_iload_n C dX1_lot_35 1 rfl ?_
        refine gj_i2l C dX1_lot_36 ?_
        refine gj_nrmL ?_
        refine gx_pL (O := "BorrowedLives") (nm := "g") (ds := "J") (fin := false) C E dX1_lot_37 (by decide +kernel) (Or.inl q393) (fun _ h => h) (fun h => by cases h) (by decide +kernel) ?_
        refine gx_aload_n C dX1_lot_40 0 rfl ?_
        refine gx_aload_n C dX1_lot_41 0 rfl ?_
        refine gx_gR (O := "BorrowedLives") (nm := "state") (ds := "LBorrowedLives$State;") (fin := true) C E dX1_lot_42 (by decide +kernel) (Or.inl q380) (fun _ h => h) (fun v42 => ?_)
        refine gx_callVI (t0 := 1) (As := [rv g v42]) (rest := []) C E rfl dX1_lot_45 (mx1_drawsLot (cx_l X) g a0 v42) (lw_V q1457 q1459 qs41 q125 q1460) hyx_X1_drawsLot rfl hR (Nat.le_of_ble_eq_true rfl) (by decide) rfl rfl (Nat.zero_le _) (fun v45 => ?_)
        exact gx_iret C hQ hr dX1_lot_48
      · refine gj_iconst C dX1_lot_28 ?_
        exact gx_iret C hQ hr dX1_lot_29
def x1_canSwap (a0 a1 : Option Nat) (a2 a3 : Int) : PT Hp Int :=
  pbnd (xgI a1 4 7) fun v1 =>
  pite (w32 v1 = 0) (
    pbnd (pzo 0) fun _ => pret 0) (
    pbnd (xrecv a1 4) fun _ =>
    pbnd (x4_lifeOf a1 a3) fun v11 =>
    pbnd (xrecv a0 1) fun _ =>
    pbnd (x1_mayBe a0 a2 v11) fun v14 =>
    pite (w32 v14 = 0) (
      pbnd (pzo 0) fun _ => pret 0) (
      pbnd (xrecv a1 4) fun _ =>
      pbnd (x4_lifeOf a1 a2) fun v24 =>
      pbnd (xrecv a0 1) fun _ =>
      pbnd (x1_mayBe a0 a3 v24) fun v27 =>
      pite (w32 v27 = 0) (
        pbnd (pzo 0) fun _ => pret 0) (
        pbnd (pzo 1) fun _ => pret 1)))
set_option maxHeartbeats 4000000 in
set_option maxRecDepth 100000 in
theorem mx1_canSwap (l : Launch) (g : XG) (a0 a1 : Option Nat) (a2 a3 : Int) : XMet l g yX1_canSwap cX1_canSwap 4 (Option.some Jvm.ClassFile.FieldType.boolean) (5) [rv g a0, rv g a1, .int (iI a2), .int (iI a3)] (x1_canSwap a0 a1 a2 a3) rvI := by
  refine gx_start (by decide +kernel) (by have e := lg_sl_len [rv g a0, rv g a1, .int (iI a2), .int (iI a3)]; simp only [List.map_cons, List.map_nil, List.sum_cons, List.sum_nil, rv_cat, cat_int, cat_long] at e; omega) (fun X Q σ0 hl C E hQ hR hr hnm => ?_)
  subst hl
  rw [show lv_args 0 [rv g a0, rv g a1, .int (iI a2), .int (iI a3)] = [(0, rv g a0), (1, rv g a1), (2, .int (iI a2)), (3, .int (iI a3))] from by simp [lv_args, rv_cat, cat_int, cat_long]]
  show GJ X 4 (xWo g σ0 (cx_s X).heap) Q (x1_canSwap a0 a1 a2 a3) 0 [(0, rv g a0), (1, rv g a1), (2, .int (iI a2)), (3, .int (iI a3))] []
  unfold x1_canSwap
  refine gx_aload_n C dX1_canSwap_0 1 rfl ?_
  refine gx_gI (O := "BorrowedLives$State") (nm := "away") (ds := "Z") (fin := false) C E dX1_canSwap_1 (by decide +kernel) (Or.inr ⟨_, q309⟩) (fun _ h => h) (fun v1 => ?_)
  refine gj_if_eq (tgt := 37) C dX1_canSwap_4 (by decide) (fun h4 => gj_pos h4 ?_) (fun h4 => gj_neg h4 ?_)
  · refine gj_iconst C dX1_canSwap_37 ?_
    exact gx_zret C hQ hr dX1_canSwap_38
  · refine gx_aload_n C dX1_canSwap_7 0 rfl ?_
    refine gj_iload_n C dX1_canSwap_8 2 rfl ?_
    refine gx_aload_n C dX1_canSwap_9 1 rfl ?_
    refine gj_iload_n C dX1_canSwap_10 3 rfl ?_
    refine gx_callVI (t0 := 4) (As := [.int (iI a3)]) (rest := [.int (iI a2), rv g a0]) C E rfl dX1_canSwap_11 (mx4_lifeOf (cx_l X) g a1 a3) (lw_V q1220 q1221 q1222 q131 q1223) hyx_X4_lifeOf rfl hR (Nat.le_of_ble_eq_true rfl) (by decide) rfl rfl (by simp only [List.map_cons, List.map_nil, List.sum_cons, List.sum_nil, rv_cat, cat_int, cat_long]; decide) (fun v11 => ?_)
    refine gx_callVI (t0 := 1) (As := [.int (iI a2), .int (iI v11)]) (rest := []) C E rfl dX1_canSwap_14 (mx1_mayBe (cx_l X) g a0 a2 v11) (lw_V q1241 q1243 qs31 q125 q1244) hyx_X1_mayBe rfl hR (Nat.le_of_ble_eq_true rfl) (by decide) rfl rfl (Nat.zero_le _) (fun v14 => ?_)
    refine gj_if_eq (tgt := 37) C dX1_canSwap_17 (by decide) (fun h17 => gj_pos h17 ?_) (fun h17 => gj_neg h17 ?_)
    · refine gj_iconst C dX1_canSwap_37 ?_
      exact gx_zret C hQ hr dX1_canSwap_38
    · refine gx_aload_n C dX1_canSwap_20 0 rfl ?_
      refine gj_iload_n C dX1_canSwap_21 3 rfl ?_
      refine gx_aload_n C dX1_canSwap_22 1 rfl ?_
      refine gj_iload_n C dX1_canSwap_23 2 rfl ?_
      refine gx_callVI (t0 := 4) (As := [.int (iI a2)]) (rest := [.int (iI a3), rv g a0]) C E rfl dX1_canSwap_24 (mx4_lifeOf (cx_l X) g a1 a2) (lw_V q1220 q1221 q1222 q131 q1223) hyx_X4_lifeOf rfl hR (Nat.le_of_ble_eq_true rfl) (by decide) rfl rfl (by simp only [List.map_cons, List.map_nil, List.sum_cons, List.sum_nil, rv_cat, cat_int, cat_long]; decide) (fun v24 => ?_)
      refine gx_callVI (t0 := 1) (As := [.int (iI a3), .int (iI v24)]) (rest := []) C E rfl dX1_canSwap_27 (mx1_mayBe (cx_l X) g a0 a3 v24) (lw_V q1241 q1243 qs31 q125 q1244) hyx_X1_mayBe rfl hR (Nat.le_of_ble_eq_true rfl) (by decide) rfl rfl (Nat.zero_le _) (fun v27 => ?_)
      refine gj_if_eq (tgt := 37) C dX1_canSwap_30 (by decide) (fun h30 => gj_pos h30 ?_) (fun h30 => gj_neg h30 ?_)
      · refine gj_iconst C dX1_canSwap_37 ?_
        exact gx_zret C hQ hr dX1_canSwap_38
      · refine gj_iconst C dX1_canSwap_33 ?_
        refine gj_goto (tgt := 38) C dX1_canSwap_34 (by decide) ?_
        exact gx_zret C hQ hr dX1_canSwap_38
def x1_swaps (a0 a1 : Option Nat) (a2 a3 : Int) : PT Hp Unit :=
  pbnd (xrecv a1 4) fun _ =>
  pbnd (x4_lifeOf a1 a2) fun v2 =>
  pbnd (xrecv a1 4) fun _ =>
  pbnd (x4_lifeOf a1 a3) fun v9 =>
  pbnd (xgR a1 4 6) fun v15 =>
  pbnd (xst v15 40 v2 (w32 a3)) fun _ =>
  pbnd (xgR a1 4 6) fun v23 =>
  pbnd (xst v23 40 v9 (w32 a2)) fun _ =>
  pret ()
set_option maxHeartbeats 4000000 in
set_option maxRecDepth 100000 in
theorem mx1_swaps (l : Launch) (g : XG) (a0 a1 : Option Nat) (a2 a3 : Int) : XMet l g yX1_swaps cX1_swaps 6 (Option.none : Option Jvm.ClassFile.FieldType) (1) [rv g a0, rv g a1, .int (iI a2), .int (iI a3)] (x1_swaps a0 a1 a2 a3) rvV := by
  refine gx_start (by decide +kernel) (by have e := lg_sl_len [rv g a0, rv g a1, .int (iI a2), .int (iI a3)]; simp only [List.map_cons, List.map_nil, List.sum_cons, List.sum_nil, rv_cat, cat_int, cat_long] at e; omega) (fun X Q σ0 hl C E hQ hR hr hnm => ?_)
  subst hl
  rw [show lv_args 0 [rv g a0, rv g a1, .int (iI a2), .int (iI a3)] = [(0, rv g a0), (1, rv g a1), (2, .int (iI a2)), (3, .int (iI a3))] from by simp [lv_args, rv_cat, cat_int, cat_long]]
  show GJ X 6 (xWo g σ0 (cx_s X).heap) Q (x1_swaps a0 a1 a2 a3) 0 [(0, rv g a0), (1, rv g a1), (2, .int (iI a2)), (3, .int (iI a3))] []
  unfold x1_swaps
  refine gx_aload_n C dX1_swaps_0 1 rfl ?_
  refine gj_iload_n C dX1_swaps_1 2 rfl ?_
  refine gx_callVI (t0 := 4) (As := [.int (iI a2)]) (rest := []) C E rfl dX1_swaps_2 (mx4_lifeOf (cx_l X) g a1 a2) (lw_V q1220 q1221 q1222 q131 q1223) hyx_X4_lifeOf rfl hR (Nat.le_of_ble_eq_true rfl) (by decide) rfl rfl (Nat.zero_le _) (fun v2 => ?_)
  refine gj_istore (L' := [(4, _), (0, _), (1, _), (2, _), (3, _)]) C dX1_swaps_5 (by decide) rfl ?_
  refine gx_aload_n C dX1_swaps_7 2 rfl ?_
  refine gj_iload_n C dX1_swaps_8 4 rfl ?_
  refine gx_callVI (t0 := 4) (As := [.int (iI a3)]) (rest := []) C E rfl dX1_swaps_9 (mx4_lifeOf (cx_l X) g a1 a3) (lw_V q1220 q1221 q1222 q131 q1223) hyx_X4_lifeOf rfl hR (Nat.le_of_ble_eq_true rfl) (by decide) rfl rfl (Nat.zero_le _) (fun v9 => ?_)
  refine gj_istore (L' := [(5, _), (4, _), (0, _), (1, _), (2, _), (3, _)]) C dX1_swaps_12 (by decide) rfl ?_
  refine gx_aload_n C dX1_swaps_14 3 rfl ?_
  refine gx_gR (O := "BorrowedLives$State") (nm := "self") (ds := "[I") (fin := true) C E dX1_swaps_15 (by decide +kernel) (Or.inr ⟨_, q303⟩) (fun _ h => h) (fun v15 => ?_)
  refine gj_iload C dX1_swaps_18 1 rfl ?_
  refine gj_iload_n C dX1_swaps_20 5 rfl ?_
  refine gj_nrmI ?_
  refine gx_iast C E dX1_swaps_21 ?_
  refine gx_aload_n C dX1_swaps_22 3 rfl ?_
  refine gx_gR (O := "BorrowedLives$State") (nm := "self") (ds := "[I") (fin := true) C E dX1_swaps_23 (by decide +kernel) (Or.inr ⟨_, q303⟩) (fun _ h => h) (fun v23 => ?_)
  refine gj_iload C dX1_swaps_26 0 rfl ?_
  refine gj_iload_n C dX1_swaps_28 4 rfl ?_
  refine gj_nrmI ?_
  refine gx_iast C E dX1_swaps_29 ?_
  exact gx_vret C hQ hr dX1_swaps_30
def x1_swap (a0 : Option Nat) (a1 a2 : Int) : PT Hp Int :=
  pbnd (xrecv a0 1) fun _ =>
  pbnd (x1_isPerson a0 a1) fun v2 =>
  pite (w32 v2 = 0) (
    pbnd (pzo 0) fun _ => pret 0) (
    pbnd (xrecv a0 1) fun _ =>
    pbnd (x1_isPerson a0 a2) fun v10 =>
    pite (w32 v10 = 0) (
      pbnd (pzo 0) fun _ => pret 0) (
      pite (w32 a1 = w32 a2) (
        pbnd (pzo 0) fun _ => pret 0) (
        pbnd (xgR a0 1 4) fun v23 =>
        pbnd (xrecv a0 1) fun _ =>
        pbnd (x1_canSwap a0 v23 a1 a2) fun v28 =>
        pite (w32 v28 = 0) (
          pbnd (pzo 0) fun _ => pret 0) (
          pbnd (xrecv a0 1) fun _ =>
          pbnd (x1_keeps a0) fun _ =>
          pbnd (xgR a0 1 4) fun v42 =>
          pbnd (xrecv a0 1) fun _ =>
          pbnd (x1_swaps a0 v42 a1 a2) fun _ =>
          pbnd (pzo 1) fun _ => pret 1))))
set_option maxHeartbeats 4000000 in
set_option maxRecDepth 100000 in
theorem mx1_swap (l : Launch) (g : XG) (a0 : Option Nat) (a1 a2 : Int) : XMet l g yX1_swap cX1_swap 3 (Option.some Jvm.ClassFile.FieldType.boolean) (6) [rv g a0, .int (iI a1), .int (iI a2)] (x1_swap a0 a1 a2) rvI := by
  refine gx_start (by decide +kernel) (by have e := lg_sl_len [rv g a0, .int (iI a1), .int (iI a2)]; simp only [List.map_cons, List.map_nil, List.sum_cons, List.sum_nil, rv_cat, cat_int, cat_long] at e; omega) (fun X Q σ0 hl C E hQ hR hr hnm => ?_)
  subst hl
  rw [show lv_args 0 [rv g a0, .int (iI a1), .int (iI a2)] = [(0, rv g a0), (1, .int (iI a1)), (2, .int (iI a2))] from by simp [lv_args, rv_cat, cat_int, cat_long]]
  show GJ X 3 (xWo g σ0 (cx_s X).heap) Q (x1_swap a0 a1 a2) 0 [(0, rv g a0), (1, .int (iI a1)), (2, .int (iI a2))] []
  unfold x1_swap
  refine gx_aload_n C dX1_swap_0 0 rfl ?_
  refine gj_iload_n C dX1_swap_1 1 rfl ?_
  refine gx_callVI (t0 := 1) (As := [.int (iI a1)]) (rest := []) C E rfl dX1_swap_2 (mx1_isPerson (cx_l X) g a0 a1) (lw_V q1188 q1190 qs28 q125 q1191) hyx_X1_isPerson rfl hR (Nat.le_of_ble_eq_true rfl) (by decide) rfl rfl (Nat.zero_le _) (fun v2 => ?_)
  refine gj_if_eq (tgt := 34) C dX1_swap_5 (by decide) (fun h5 => gj_pos h5 ?_) (fun h5 => gj_neg h5 ?_)
  · refine gj_iconst C dX1_swap_34 ?_
    exact gx_zret C hQ hr dX1_swap_35
  · refine gx_aload_n C dX1_swap_8 0 rfl ?_
    refine gj_iload_n C dX1_swap_9 2 rfl ?_
    refine gx_callVI (t0 := 1) (As := [.int (iI a2)]) (rest := []) C E rfl dX1_swap_10 (mx1_isPerson (cx_l X) g a0 a2) (lw_V q1188 q1190 qs28 q125 q1191) hyx_X1_isPerson rfl hR (Nat.le_of_ble_eq_true rfl) (by decide) rfl rfl (Nat.zero_le _) (fun v10 => ?_)
    refine gj_if_eq (tgt := 34) C dX1_swap_13 (by decide) (fun h13 => gj_pos h13 ?_) (fun h13 => gj_neg h13 ?_)
    · refine gj_iconst C dX1_swap_34 ?_
      exact gx_zret C hQ hr dX1_swap_35
    · refine gj_iload_n C dX1_swap_16 1 rfl ?_
      refine gj_iload_n C dX1_swap_17 2 rfl ?_
      refine gj_icmp_eq (tgt := 34) C dX1_swap_18 (by decide) rfl rfl (fun h18 => gj_pos h18 ?_) (fun h18 => gj_neg h18 ?_)
      · refine gj_iconst C dX1_swap_34 ?_
        exact gx_zret C hQ hr dX1_swap_35
      · refine gx_aload_n C dX1_swap_21 0 rfl ?_
        refine gx_aload_n C dX1_swap_22 0 rfl ?_
        refine gx_gR (O := "BorrowedLives") (nm := "state") (ds := "LBorrowedLives$State;") (fin := true) C E dX1_swap_23 (by decide +kernel) (Or.inl q380) (fun _ h => h) (fun v23 => ?_)
        refine gj_iload_n C dX1_swap_26 1 rfl ?_
        refine gj_iload_n C dX1_swap_27 2 rfl ?_
        refine gx_callVI (t0 := 1) (As := [rv g v23, .int (iI a1), .int (iI a2)]) (rest := []) C E rfl dX1_swap_28 (mx1_canSwap (cx_l X) g a0 v23 a1 a2) (lw_V q1493 q1495 qs43 q125 q1496) hyx_X1_canSwap rfl hR (Nat.le_of_ble_eq_true rfl) (by decide) rfl rfl (Nat.zero_le _) (fun v28 => ?_)
        refine gj_if_ne (tgt := 36) C dX1_swap_31 (by decide) (fun h31 => gj_neg h31 ?_) (fun h31 => gj_pos h31 ?_)
        · refine gx_aload_n C dX1_swap_36 0 rfl ?_
          refine gx_callVV (t0 := 1) (As := []) (rest := []) C E rfl dX1_swap_37 (mx1_keeps (cx_l X) g a0) (lw_V q1448 q1450 qs40 q125 q1451) hyx_X1_keeps rfl hR (Nat.le_of_ble_eq_true rfl) (by decide) rfl rfl (Nat.zero_le _) ?_
          refine gx_aload_n C dX1_swap_40 0 rfl ?_
          refine gx_aload_n C dX1_swap_41 0 rfl ?_
          refine gx_gR (O := "BorrowedLives") (nm := "state") (ds := "LBorrowedLives$State;") (fin := true) C E dX1_swap_42 (by decide +kernel) (Or.inl q380) (fun _ h => h) (fun v42 => ?_)
          refine gj_iload_n C dX1_swap_45 1 rfl ?_
          refine gj_iload_n C dX1_swap_46 2 rfl ?_
          refine gx_callVV (t0 := 1) (As := [rv g v42, .int (iI a1), .int (iI a2)]) (rest := []) C E rfl dX1_swap_47 (mx1_swaps (cx_l X) g a0 v42 a1 a2) (lw_V q1497 q1499 qs44 q125 q1500) hyx_X1_swaps rfl hR (Nat.le_of_ble_eq_true rfl) (by decide) rfl rfl (Nat.zero_le _) ?_
          refine gj_iconst C dX1_swap_50 ?_
          exact gx_zret C hQ hr dX1_swap_51
        · refine gj_iconst C dX1_swap_34 ?_
          exact gx_zret C hQ hr dX1_swap_35
def x1_day (a0 : Option Nat) : PT Hp Int :=
  pbnd (xgR a0 1 4) fun v1 =>
  pbnd (xgI v1 4 7) fun v4 =>
  pite (w32 v4 = 0) (
    pret (-1)) (
    pbnd (xgR a0 1 4) fun v11 =>
    pbnd (xgI v11 4 8) fun v14 =>
    pite (w32 v14 = 7) (
      pret (-1)) (
      pbnd (xrecv a0 1) fun _ =>
      pbnd (x1_keeps a0) fun _ =>
      pbnd (xgR a0 1 4) fun v30 =>
      pbnd (xgR a0 1 2) fun v34 =>
      pbnd (xrecv v34 3) fun _ =>
      pbnd (x3_sign v34) fun v37 =>
      pbnd (xrecv a0 1) fun _ =>
      pbnd (x1_passes a0 v30 v37) fun _ =>
      pbnd (xgR a0 1 4) fun v44 =>
      pbnd (xgI v44 4 8) fun v47 =>
      pret v47))
set_option maxHeartbeats 4000000 in
set_option maxRecDepth 100000 in
theorem mx1_day (l : Launch) (g : XG) (a0 : Option Nat) : XMet l g yX1_day cX1_day 1 (Option.some Jvm.ClassFile.FieldType.int) (704) [rv g a0] (x1_day a0) rvI := by
  refine gx_start (by decide +kernel) (by have e := lg_sl_len [rv g a0]; simp only [List.map_cons, List.map_nil, List.sum_cons, List.sum_nil, rv_cat, cat_int, cat_long] at e; omega) (fun X Q σ0 hl C E hQ hR hr hnm => ?_)
  subst hl
  rw [show lv_args 0 [rv g a0] = [(0, rv g a0)] from by simp [lv_args, rv_cat, cat_int, cat_long]]
  show GJ X 1 (xWo g σ0 (cx_s X).heap) Q (x1_day a0) 0 [(0, rv g a0)] []
  unfold x1_day
  refine gx_aload_n C dX1_day_0 0 rfl ?_
  refine gx_gR (O := "BorrowedLives") (nm := "state") (ds := "LBorrowedLives$State;") (fin := true) C E dX1_day_1 (by decide +kernel) (Or.inl q380) (fun _ h => h) (fun v1 => ?_)
  refine gx_gI (O := "BorrowedLives$State") (nm := "away") (ds := "Z") (fin := false) C E dX1_day_4 (by decide +kernel) (Or.inr ⟨_, q309⟩) (fun _ h => h) (fun v4 => ?_)
  refine gj_if_eq (tgt := 22) C dX1_day_7 (by decide) (fun h7 => gj_pos h7 ?_) (fun h7 => gj_neg h7 ?_)
  · refine gj_iconst C dX1_day_22 ?_
    exact gx_iret C hQ hr dX1_day_23
  · refine gx_aload_n C dX1_day_10 0 rfl ?_
    refine gx_gR (O := "BorrowedLives") (nm := "state") (ds := "LBorrowedLives$State;") (fin := true) C E dX1_day_11 (by decide +kernel) (Or.inl q380) (fun _ h => h) (fun v11 => ?_)
    refine gx_gI (O := "BorrowedLives$State") (nm := "days") (ds := "I") (fin := false) C E dX1_day_14 (by decide +kernel) (Or.inr ⟨_, q312⟩) (fun _ h => h) (fun v14 => ?_)
    refine gj_bipush C dX1_day_17 rfl ?_
    refine gj_icmp_ne (tgt := 24) (b' := 7) C dX1_day_19 (by decide) rfl (by decide) (fun h19 => gj_neg h19 ?_) (fun h19 => gj_pos h19 ?_)
    · refine gx_aload_n C dX1_day_24 0 rfl ?_
      refine gx_callVV (t0 := 1) (As := []) (rest := []) C E rfl dX1_day_25 (mx1_keeps (cx_l X) g a0) (lw_V q1448 q1450 qs40 q125 q1451) hyx_X1_keeps rfl hR (Nat.le_of_ble_eq_true rfl) (by decide) rfl rfl (Nat.zero_le _) ?_
      refine gx_aload_n C dX1_day_28 0 rfl ?_
      refine gx_aload_n C dX1_day_29 0 rfl ?_
      refine gx_gR (O := "BorrowedLives") (nm := "state") (ds := "LBorrowedLives$State;") (fin := true) C E dX1_day_30 (by decide +kernel) (Or.inl q380) (fun _ h => h) (fun v30 => ?_)
      refine gx_aload_n C dX1_day_33 0 rfl ?_
      refine gx_gR (O := "BorrowedLives") (nm := "town") (ds := "LBorrowedLives$Town;") (fin := false) C E dX1_day_34 (by decide +kernel) (Or.inl q377) (fun _ h => h) (fun v34 => ?_)
      refine gx_callVI (t0 := 3) (As := []) (rest := [rv g v30, rv g a0]) C E rfl dX1_day_37 (mx3_sign (cx_l X) g v34) (lw_V q1317 q1318 q1319 q127 q1320) hyx_X3_sign rfl hR (Nat.le_of_ble_eq_true rfl) (by decide) rfl rfl (by simp only [List.map_cons, List.map_nil, List.sum_cons, List.sum_nil, rv_cat, cat_int, cat_long]; decide) (fun v37 => ?_)
      refine gx_callVV (t0 := 1) (As := [rv g v30, .int (iI v37)]) (rest := []) C E rfl dX1_day_40 (mx1_passes (cx_l X) g a0 v30 v37) (lw_V q1321 q1323 qs35 q125 q1324) hyx_X1_passes rfl hR (Nat.le_of_ble_eq_true rfl) (by decide) rfl rfl (Nat.zero_le _) ?_
      refine gx_aload_n C dX1_day_43 0 rfl ?_
      refine gx_gR (O := "BorrowedLives") (nm := "state") (ds := "LBorrowedLives$State;") (fin := true) C E dX1_day_44 (by decide +kernel) (Or.inl q380) (fun _ h => h) (fun v44 => ?_)
      refine gx_gI (O := "BorrowedLives$State") (nm := "days") (ds := "I") (fin := false) C E dX1_day_47 (by decide +kernel) (Or.inr ⟨_, q312⟩) (fun _ h => h) (fun v47 => ?_)
      exact gx_iret C hQ hr dX1_day_50
    · refine gj_iconst C dX1_day_22 ?_
      exact gx_iret C hQ hr dX1_day_23
def x1_comesHome (a0 a1 : Option Nat) : PT Hp Int :=
  pbnd (xrecv a1 4) fun _ =>
  pbnd (x4_harmOfAll a1) fun v1 =>
  pbnd (xgI a1 4 10) fun v7 =>
  pbnd (xpI a1 4 10 (w32 (v7 + v1))) fun _ =>
  pbnd (xgI a1 4 9) fun v17 =>
  pbnd (xpI a1 4 9 (w32 (v17 + 1))) fun _ =>
  pbnd (xrecv a1 4) fun _ =>
  pbnd (x4_allAreHome a1) fun _ =>
  pret v1
set_option maxHeartbeats 4000000 in
set_option maxRecDepth 100000 in
theorem mx1_comesHome (l : Launch) (g : XG) (a0 a1 : Option Nat) : XMet l g yX1_comesHome cX1_comesHome 3 (Option.some Jvm.ClassFile.FieldType.int) (3) [rv g a0, rv g a1] (x1_comesHome a0 a1) rvI := by
  refine gx_start (by decide +kernel) (by have e := lg_sl_len [rv g a0, rv g a1]; simp only [List.map_cons, List.map_nil, List.sum_cons, List.sum_nil, rv_cat, cat_int, cat_long] at e; omega) (fun X Q σ0 hl C E hQ hR hr hnm => ?_)
  subst hl
  rw [show lv_args 0 [rv g a0, rv g a1] = [(0, rv g a0), (1, rv g a1)] from by simp [lv_args, rv_cat, cat_int, cat_long]]
  show GJ X 3 (xWo g σ0 (cx_s X).heap) Q (x1_comesHome a0 a1) 0 [(0, rv g a0), (1, rv g a1)] []
  unfold x1_comesHome
  refine gx_aload_n C dX1_comesHome_0 1 rfl ?_
  refine gx_callVI (t0 := 4) (As := []) (rest := []) C E rfl dX1_comesHome_1 (mx4_harmOfAll (cx_l X) g a1) (lw_V q1513 q1421 q1422 q131 q1423) hyx_X4_harmOfAll rfl hR (Nat.le_of_ble_eq_true rfl) (by decide) rfl rfl (Nat.zero_le _) (fun v1 => ?_)
  refine gj_istore_n (L' := [(2, .int (iI v1)), (0, rv g a0), (1, rv g a1)]) C dX1_comesHome_4 (by decide) (by simp [List.filter, rv_cat, cat_int, cat_long, fin4_3]) ?_
  refine gx_aload_n C dX1_comesHome_5 2 rfl ?_
  refine gx_dup C dX1_comesHome_6 ?_
  refine gx_gI (O := "BorrowedLives$State") (nm := "harm") (ds := "I") (fin := false) C E dX1_comesHome_7 (by decide +kernel) (Or.inr ⟨_, q316⟩) (fun _ h => h) (fun v7 => ?_)
  refine gj_iload_n C dX1_comesHome_10 0 rfl ?_
  refine gj_iadd C dX1_comesHome_11 ?_
  refine gj_nrmI ?_
  refine gx_pI (O := "BorrowedLives$State") (nm := "harm") (ds := "I") (fin := false) (ty := .int) C E dX1_comesHome_12 (by decide +kernel) (Or.inr ⟨_, q316⟩) (fun _ h => h) (fun h => by cases h) (by decide +kernel) (inty_int _) ?_
  refine gx_aload_n C dX1_comesHome_15 2 rfl ?_
  refine gx_dup C dX1_comesHome_16 ?_
  refine gx_gI (O := "BorrowedLives$State") (nm := "homes") (ds := "I") (fin := false) C E dX1_comesHome_17 (by decide +kernel) (Or.inr ⟨_, q314⟩) (fun _ h => h) (fun v17 => ?_)
  refine gj_iconst C dX1_comesHome_20 ?_
  refine gj_iadd C dX1_comesHome_21 ?_
  refine gj_nrmI ?_
  refine gx_pI (O := "BorrowedLives$State") (nm := "homes") (ds := "I") (fin := false) (ty := .int) C E dX1_comesHome_22 (by decide +kernel) (Or.inr ⟨_, q314⟩) (fun _ h => h) (fun h => by cases h) (by decide +kernel) (inty_int _) ?_
  refine gx_aload_n C dX1_comesHome_25 2 rfl ?_
  refine gx_callVV (t0 := 4) (As := []) (rest := []) C E rfl dX1_comesHome_26 (mx4_allAreHome (cx_l X) g a1) (lw_V q1514 q370 q371 q131 q372) hyx_X4_allAreHome rfl hR (Nat.le_of_ble_eq_true rfl) (by decide) rfl rfl (Nat.zero_le _) ?_
  refine gj_iload_n C dX1_comesHome_29 0 rfl ?_
  exact gx_iret C hQ hr dX1_comesHome_30
def x1_home (a0 : Option Nat) : PT Hp Int :=
  pbnd (xgR a0 1 4) fun v1 =>
  pbnd (xgI v1 4 7) fun v4 =>
  pite (w32 v4 = 0) (
    pret (-1)) (
    pbnd (xrecv a0 1) fun _ =>
    pbnd (x1_keeps a0) fun _ =>
    pbnd (xgR a0 1 4) fun v18 =>
    pbnd (xrecv a0 1) fun _ =>
    pbnd (x1_comesHome a0 v18) fun v21 =>
    pret v21)
set_option maxHeartbeats 4000000 in
set_option maxRecDepth 100000 in
theorem mx1_home (l : Launch) (g : XG) (a0 : Option Nat) : XMet l g yX1_home cX1_home 1 (Option.some Jvm.ClassFile.FieldType.int) (4) [rv g a0] (x1_home a0) rvI := by
  refine gx_start (by decide +kernel) (by have e := lg_sl_len [rv g a0]; simp only [List.map_cons, List.map_nil, List.sum_cons, List.sum_nil, rv_cat, cat_int, cat_long] at e; omega) (fun X Q σ0 hl C E hQ hR hr hnm => ?_)
  subst hl
  rw [show lv_args 0 [rv g a0] = [(0, rv g a0)] from by simp [lv_args, rv_cat, cat_int, cat_long]]
  show GJ X 1 (xWo g σ0 (cx_s X).heap) Q (x1_home a0) 0 [(0, rv g a0)] []
  unfold x1_home
  refine gx_aload_n C dX1_home_0 0 rfl ?_
  refine gx_gR (O := "BorrowedLives") (nm := "state") (ds := "LBorrowedLives$State;") (fin := true) C E dX1_home_1 (by decide +kernel) (Or.inl q380) (fun _ h => h) (fun v1 => ?_)
  refine gx_gI (O := "BorrowedLives$State") (nm := "away") (ds := "Z") (fin := false) C E dX1_home_4 (by decide +kernel) (Or.inr ⟨_, q309⟩) (fun _ h => h) (fun v4 => ?_)
  refine gj_if_ne (tgt := 12) C dX1_home_7 (by decide) (fun h7 => gj_neg h7 ?_) (fun h7 => gj_pos h7 ?_)
  · refine gx_aload_n C dX1_home_12 0 rfl ?_
    refine gx_callVV (t0 := 1) (As := []) (rest := []) C E rfl dX1_home_13 (mx1_keeps (cx_l X) g a0) (lw_V q1448 q1450 qs40 q125 q1451) hyx_X1_keeps rfl hR (Nat.le_of_ble_eq_true rfl) (by decide) rfl rfl (Nat.zero_le _) ?_
    refine gx_aload_n C dX1_home_16 0 rfl ?_
    refine gx_aload_n C dX1_home_17 0 rfl ?_
    refine gx_gR (O := "BorrowedLives") (nm := "state") (ds := "LBorrowedLives$State;") (fin := true) C E dX1_home_18 (by decide +kernel) (Or.inl q380) (fun _ h => h) (fun v18 => ?_)
    refine gx_callVI (t0 := 1) (As := [rv g v18]) (rest := []) C E rfl dX1_home_21 (mx1_comesHome (cx_l X) g a0 v18) (lw_V q1509 q1511 qs45 q125 q1512) hyx_X1_comesHome rfl hR (Nat.le_of_ble_eq_true rfl) (by decide) rfl rfl (Nat.zero_le _) (fun v21 => ?_)
    exact gx_iret C hQ hr dX1_home_24
  · refine gj_iconst C dX1_home_10 ?_
    exact gx_iret C hQ hr dX1_home_11
def x1_undo (a0 : Option Nat) : PT Hp Int :=
  pbnd (xgI a0 1 11) fun v1 =>
  pite (w32 v1 = 0) (
    pbnd (pzo 0) fun _ => pret 0) (
    pbnd (xgR a0 1 4) fun v10 =>
    pbnd (xgR a0 1 10) fun v14 =>
    pbnd (xgI a0 1 11) fun v19 =>
    pbnd (xpI a0 1 11 (w32 (v19 - 1))) fun _ =>
    pbnd (xldR v14 45 (v19 - 1)) fun v28 =>
    pbnd (xrecv v10 4) fun _ =>
    pbnd (x4_be v10 v28) fun _ =>
    pbnd (pzo 1) fun _ => pret 1)
set_option maxHeartbeats 4000000 in
set_option maxRecDepth 100000 in
theorem mx1_undo (l : Launch) (g : XG) (a0 : Option Nat) : XMet l g yX1_undo cX1_undo 1 (Option.some Jvm.ClassFile.FieldType.boolean) (2) [rv g a0] (x1_undo a0) rvI := by
  refine gx_start (by decide +kernel) (by have e := lg_sl_len [rv g a0]; simp only [List.map_cons, List.map_nil, List.sum_cons, List.sum_nil, rv_cat, cat_int, cat_long] at e; omega) (fun X Q σ0 hl C E hQ hR hr hnm => ?_)
  subst hl
  rw [show lv_args 0 [rv g a0] = [(0, rv g a0)] from by simp [lv_args, rv_cat, cat_int, cat_long]]
  show GJ X 1 (xWo g σ0 (cx_s X).heap) Q (x1_undo a0) 0 [(0, rv g a0)] []
  unfold x1_undo
  refine gx_aload_n C dX1_undo_0 0 rfl ?_
  refine gx_gI (O := "BorrowedLives") (nm := "done") (ds := "I") (fin := false) C E dX1_undo_1 (by decide +kernel) (Or.inl q391) (fun _ h => h) (fun v1 => ?_)
  refine gj_if_ne (tgt := 9) C dX1_undo_4 (by decide) (fun h4 => gj_neg h4 ?_) (fun h4 => gj_pos h4 ?_)
  · refine gx_aload_n C dX1_undo_9 0 rfl ?_
    refine gx_gR (O := "BorrowedLives") (nm := "state") (ds := "LBorrowedLives$State;") (fin := true) C E dX1_undo_10 (by decide +kernel) (Or.inl q380) (fun _ h => h) (fun v10 => ?_)
    refine gx_aload_n C dX1_undo_13 0 rfl ?_
    refine gx_gR (O := "BorrowedLives") (nm := "undone") (ds := "[LBorrowedLives$State;") (fin := true) C E dX1_undo_14 (by decide +kernel) (Or.inl q390) (fun _ h => h) (fun v14 => ?_)
    refine gx_aload_n C dX1_undo_17 0 rfl ?_
    refine gx_dup C dX1_undo_18 ?_
    refine gx_gI (O := "BorrowedLives") (nm := "done") (ds := "I") (fin := false) C E dX1_undo_19 (by decide +kernel) (Or.inl q391) (fun _ h => h) (fun v19 => ?_)
    refine gj_iconst C dX1_undo_22 ?_
    refine gj_isub C dX1_undo_23 ?_
    refine gj_dup_x1 C dX1_undo_24 rfl (rv_cat _ _) ?_
    refine gj_nrmI ?_
    refine gx_pI (O := "BorrowedLives") (nm := "done") (ds := "I") (fin := false) (ty := .int) C E dX1_undo_25 (by decide +kernel) (Or.inl q391) (fun _ h => h) (fun h => by cases h) (by decide +kernel) (inty_int _) ?_
    refine gx_aald (t0 := 5) C E dX1_undo_28 (by decide) (by decide) rfl rfl (fun v28 => ?_)
    refine gx_callVV (t0 := 4) (As := [rv g v28]) (rest := []) C E rfl dX1_undo_29 (mx4_be (cx_l X) g v10 v28) (lw_V q1306 q1307 q1308 q131 q1309) hyx_X4_be rfl hR (Nat.le_of_ble_eq_true rfl) (by decide) rfl rfl (Nat.zero_le _) ?_
    refine gj_iconst C dX1_undo_32 ?_
    exact gx_zret C hQ hr dX1_undo_33
  · refine gj_iconst C dX1_undo_7 ?_
    exact gx_zret C hQ hr dX1_undo_8
def x17_isDone (a0 a1 a2 : Option Nat) : PT Hp Int :=
  pbnd (xgI a0 14 0) fun v2 =>
  pbnd (xpI a1 1 12 (w64 (zi2l v2))) fun _ =>
  pbnd (xgI a2 4 7) fun v10 =>
  pite (w32 v10 = 0) (
    pbnd (xrecv a1 1) fun _ =>
    pbnd (x1_drawsLot a1 a2) fun v18 =>
    pite (w32 v18 < 0) (
      pbnd (pzo 0) fun _ => pret 0) (
      pbnd (pzo 1) fun _ => pret 1)) (
    pbnd (pzo 0) fun _ => pret 0)
set_option maxHeartbeats 4000000 in
set_option maxRecDepth 100000 in
theorem mx17_isDone (l : Launch) (g : XG) (a0 a1 a2 : Option Nat) : XMet l g yX17_isDone cX17_isDone 3 (Option.some Jvm.ClassFile.FieldType.boolean) (720) [rv g a0, rv g a1, rv g a2] (x17_isDone a0 a1 a2) rvI := by
  refine gx_start (by decide +kernel) (by have e := lg_sl_len [rv g a0, rv g a1, rv g a2]; simp only [List.map_cons, List.map_nil, List.sum_cons, List.sum_nil, rv_cat, cat_int, cat_long] at e; omega) (fun X Q σ0 hl C E hQ hR hr hnm => ?_)
  subst hl
  rw [show lv_args 0 [rv g a0, rv g a1, rv g a2] = [(0, rv g a0), (1, rv g a1), (2, rv g a2)] from by simp [lv_args, rv_cat, cat_int, cat_long]]
  show GJ X 3 (xWo g σ0 (cx_s X).heap) Q (x17_isDone a0 a1 a2) 0 [(0, rv g a0), (1, rv g a1), (2, rv g a2)] []
  unfold x17_isDone
  refine gx_aload_n C dX17_isDone_0 1 rfl ?_
  refine gx_aload_n C dX17_isDone_1 0 rfl ?_
  refine gx_gI (O := "BorrowedLives$Drawn") (nm := "seed") (ds := "I") (fin := true) C E dX17_isDone_2 (by decide +kernel) (Or.inl q1136) (fun _ h => h) (fun v2 => ?_)
  refine gj_i2l C dX17_isDone_5 ?_
  refine gj_nrmL ?_
  refine gx_pL (O := "BorrowedLives") (nm := "g") (ds := "J") (fin := false) C E dX17_isDone_6 (by decide +kernel) (Or.inr ⟨_, q392⟩) (fun _ h => h) (fun h => by cases h) (by decide +kernel) ?_
  refine gx_aload_n C dX17_isDone_9 2 rfl ?_
  refine gx_gI (O := "BorrowedLives$State") (nm := "away") (ds := "Z") (fin := false) C E dX17_isDone_10 (by decide +kernel) (Or.inr ⟨_, q307⟩) (fun _ h => h) (fun v10 => ?_)
  refine gj_if_ne (tgt := 28) C dX17_isDone_13 (by decide) (fun h13 => gj_neg h13 ?_) (fun h13 => gj_pos h13 ?_)
  · refine gj_iconst C dX17_isDone_28 ?_
    exact gx_zret C hQ hr dX17_isDone_29
  · refine gx_aload_n C dX17_isDone_16 1 rfl ?_
    refine gx_aload_n C dX17_isDone_17 2 rfl ?_
    refine gx_callVNI (t0 := 1) (As := [rv g a2]) (rest := []) C E rfl dX17_isDone_18 (mx1_drawsLot (cx_l X) g a1 a2) (lw_meth q1460) q125 q1530 q1459 qs41 hyx_X1_drawsLot rfl hR (Nat.le_of_ble_eq_true rfl) (by decide) rfl rfl (Nat.zero_le _) (fun v18 => ?_)
    refine gj_if_lt (tgt := 28) C dX17_isDone_21 (by decide) (fun h21 => gj_pos h21 ?_) (fun h21 => gj_neg h21 ?_)
    · refine gj_iconst C dX17_isDone_28 ?_
      exact gx_zret C hQ hr dX17_isDone_29
    · refine gj_iconst C dX17_isDone_24 ?_
      refine gj_goto (tgt := 29) C dX17_isDone_25 (by decide) ?_
      exact gx_zret C hQ hr dX17_isDone_29
def x18_isDone (a0 a1 a2 : Option Nat) : PT Hp Int :=
  pbnd (xgI a2 4 7) fun v1 =>
  pite (w32 v1 = 0) (
    pbnd (pzo 0) fun _ => pret 0) (
    pbnd (xgI a2 4 8) fun v8 =>
    pite (w32 v8 = 7) (
      pbnd (pzo 0) fun _ => pret 0) (
      pbnd (xgR a1 1 2) fun v21 =>
      pbnd (xrecv v21 3) fun _ =>
      pbnd (x3_sign v21) fun v24 =>
      pbnd (xrecv a1 1) fun _ =>
      pbnd (x1_passes a1 a2 v24) fun _ =>
      pbnd (pzo 1) fun _ => pret 1))
set_option maxHeartbeats 4000000 in
set_option maxRecDepth 100000 in
theorem mx18_isDone (l : Launch) (g : XG) (a0 a1 a2 : Option Nat) : XMet l g yX18_isDone cX18_isDone 3 (Option.some Jvm.ClassFile.FieldType.boolean) (704) [rv g a0, rv g a1, rv g a2] (x18_isDone a0 a1 a2) rvI := by
  refine gx_start (by decide +kernel) (by have e := lg_sl_len [rv g a0, rv g a1, rv g a2]; simp only [List.map_cons, List.map_nil, List.sum_cons, List.sum_nil, rv_cat, cat_int, cat_long] at e; omega) (fun X Q σ0 hl C E hQ hR hr hnm => ?_)
  subst hl
  rw [show lv_args 0 [rv g a0, rv g a1, rv g a2] = [(0, rv g a0), (1, rv g a1), (2, rv g a2)] from by simp [lv_args, rv_cat, cat_int, cat_long]]
  show GJ X 3 (xWo g σ0 (cx_s X).heap) Q (x18_isDone a0 a1 a2) 0 [(0, rv g a0), (1, rv g a1), (2, rv g a2)] []
  unfold x18_isDone
  refine gx_aload_n C dX18_isDone_0 2 rfl ?_
  refine gx_gI (O := "BorrowedLives$State") (nm := "away") (ds := "Z") (fin := false) C E dX18_isDone_1 (by decide +kernel) (Or.inr ⟨_, q306⟩) (fun _ h => h) (fun v1 => ?_)
  refine gj_if_eq (tgt := 16) C dX18_isDone_4 (by decide) (fun h4 => gj_pos h4 ?_) (fun h4 => gj_neg h4 ?_)
  · refine gj_iconst C dX18_isDone_16 ?_
    exact gx_zret C hQ hr dX18_isDone_17
  · refine gx_aload_n C dX18_isDone_7 2 rfl ?_
    refine gx_gI (O := "BorrowedLives$State") (nm := "days") (ds := "I") (fin := false) C E dX18_isDone_8 (by decide +kernel) (Or.inr ⟨_, q310⟩) (fun _ h => h) (fun v8 => ?_)
    refine gj_bipush C dX18_isDone_11 rfl ?_
    refine gj_icmp_ne (tgt := 18) (b' := 7) C dX18_isDone_13 (by decide) rfl (by decide) (fun h13 => gj_neg h13 ?_) (fun h13 => gj_pos h13 ?_)
    · refine gx_aload_n C dX18_isDone_18 1 rfl ?_
      refine gx_aload_n C dX18_isDone_19 2 rfl ?_
      refine gx_aload_n C dX18_isDone_20 1 rfl ?_
      refine gx_gR (O := "BorrowedLives") (nm := "town") (ds := "LBorrowedLives$Town;") (fin := false) C E dX18_isDone_21 (by decide +kernel) (Or.inr ⟨_, q376⟩) (fun _ h => h) (fun v21 => ?_)
      refine gx_callVI (t0 := 3) (As := []) (rest := [rv g a2, rv g a1]) C E rfl dX18_isDone_24 (mx3_sign (cx_l X) g v21) (lw_V q1541 q1318 q1319 q127 q1320) hyx_X3_sign rfl hR (Nat.le_of_ble_eq_true rfl) (by decide) rfl rfl (by simp only [List.map_cons, List.map_nil, List.sum_cons, List.sum_nil, rv_cat, cat_int, cat_long]; decide) (fun v24 => ?_)
      refine gx_callVNV (t0 := 1) (As := [rv g a2, .int (iI v24)]) (rest := []) C E rfl dX18_isDone_27 (mx1_passes (cx_l X) g a1 a2 v24) (lw_meth q1324) q125 q1542 q1323 qs35 hyx_X1_passes rfl hR (Nat.le_of_ble_eq_true rfl) (by decide) rfl rfl (Nat.zero_le _) ?_
      refine gj_iconst C dX18_isDone_30 ?_
      exact gx_zret C hQ hr dX18_isDone_31
    · refine gj_iconst C dX18_isDone_16 ?_
      exact gx_zret C hQ hr dX18_isDone_17
def x19_isDone (a0 a1 a2 : Option Nat) : PT Hp Int :=
  pbnd (xgI a2 4 7) fun v1 =>
  pite (w32 v1 = 0) (
    pbnd (pzo 0) fun _ => pret 0) (
    pbnd (xrecv a1 1) fun _ =>
    pbnd (x1_comesHome a1 a2) fun v11 =>
    pbnd (pzo 1) fun _ => pret 1)
set_option maxHeartbeats 4000000 in
set_option maxRecDepth 100000 in
theorem mx19_isDone (l : Launch) (g : XG) (a0 a1 a2 : Option Nat) : XMet l g yX19_isDone cX19_isDone 3 (Option.some Jvm.ClassFile.FieldType.boolean) (4) [rv g a0, rv g a1, rv g a2] (x19_isDone a0 a1 a2) rvI := by
  refine gx_start (by decide +kernel) (by have e := lg_sl_len [rv g a0, rv g a1, rv g a2]; simp only [List.map_cons, List.map_nil, List.sum_cons, List.sum_nil, rv_cat, cat_int, cat_long] at e; omega) (fun X Q σ0 hl C E hQ hR hr hnm => ?_)
  subst hl
  rw [show lv_args 0 [rv g a0, rv g a1, rv g a2] = [(0, rv g a0), (1, rv g a1), (2, rv g a2)] from by simp [lv_args, rv_cat, cat_int, cat_long]]
  show GJ X 3 (xWo g σ0 (cx_s X).heap) Q (x19_isDone a0 a1 a2) 0 [(0, rv g a0), (1, rv g a1), (2, rv g a2)] []
  unfold x19_isDone
  refine gx_aload_n C dX19_isDone_0 2 rfl ?_
  refine gx_gI (O := "BorrowedLives$State") (nm := "away") (ds := "Z") (fin := false) C E dX19_isDone_1 (by decide +kernel) (Or.inr ⟨_, q304⟩) (fun _ h => h) (fun v1 => ?_)
  refine gj_if_ne (tgt := 9) C dX19_isDone_4 (by decide) (fun h4 => gj_neg h4 ?_) (fun h4 => gj_pos h4 ?_)
  · refine gx_aload_n C dX19_isDone_9 1 rfl ?_
    refine gx_aload_n C dX19_isDone_10 2 rfl ?_
    refine gx_callVNI (t0 := 1) (As := [rv g a2]) (rest := []) C E rfl dX19_isDone_11 (mx1_comesHome (cx_l X) g a1 a2) (lw_meth q1512) q125 q1534 q1511 qs45 hyx_X1_comesHome rfl hR (Nat.le_of_ble_eq_true rfl) (by decide) rfl rfl (Nat.zero_le _) (fun v11 => ?_)
    refine gj_pop C dX19_isDone_14 rfl ?_
    refine gj_iconst C dX19_isDone_15 ?_
    exact gx_zret C hQ hr dX19_isDone_16
  · refine gj_iconst C dX19_isDone_7 ?_
    exact gx_zret C hQ hr dX19_isDone_8
def x20_isDone (a0 a1 a2 : Option Nat) : PT Hp Int :=
  pbnd (xgI a2 4 7) fun v1 =>
  pite (w32 v1 = 0) (
    pbnd (xgR a2 4 0) fun v8 =>
    pbnd (xgI a0 17 0) fun v12 =>
    pbnd (xld v8 40 v12) fun v15 =>
    pbnd (xgI a0 17 1) fun v17 =>
    pite (w32 v15 < w32 v17) (
      pbnd (pzo 0) fun _ => pret 0) (
      pbnd (xgR a2 4 3) fun v26 =>
      pbnd (xgI a0 17 0) fun v30 =>
      pbnd (xgI a0 17 1) fun v34 =>
      pbnd (xst v26 40 v30 v34) fun _ =>
      pbnd (pzo 1) fun _ => pret 1)) (
    pbnd (pzo 0) fun _ => pret 0)
set_option maxHeartbeats 4000000 in
set_option maxRecDepth 100000 in
theorem mx20_isDone (l : Launch) (g : XG) (a0 a1 a2 : Option Nat) : XMet l g yX20_isDone cX20_isDone 3 (Option.some Jvm.ClassFile.FieldType.boolean) (0) [rv g a0, rv g a1, rv g a2] (x20_isDone a0 a1 a2) rvI := by
  refine gx_start (by decide +kernel) (by have e := lg_sl_len [rv g a0, rv g a1, rv g a2]; simp only [List.map_cons, List.map_nil, List.sum_cons, List.sum_nil, rv_cat, cat_int, cat_long] at e; omega) (fun X Q σ0 hl C E hQ hR hr hnm => ?_)
  subst hl
  rw [show lv_args 0 [rv g a0, rv g a1, rv g a2] = [(0, rv g a0), (1, rv g a1), (2, rv g a2)] from by simp [lv_args, rv_cat, cat_int, cat_long]]
  show GJ X 3 (xWo g σ0 (cx_s X).heap) Q (x20_isDone a0 a1 a2) 0 [(0, rv g a0), (1, rv g a1), (2, rv g a2)] []
  unfold x20_isDone
  refine gx_aload_n C dX20_isDone_0 2 rfl ?_
  refine gx_gI (O := "BorrowedLives$State") (nm := "away") (ds := "Z") (fin := false) C E dX20_isDone_1 (by decide +kernel) (Or.inr ⟨_, q305⟩) (fun _ h => h) (fun v1 => ?_)
  refine gj_if_ne (tgt := 23) C dX20_isDone_4 (by decide) (fun h4 => gj_neg h4 ?_) (fun h4 => gj_pos h4 ?_)
  · refine gj_iconst C dX20_isDone_23 ?_
    exact gx_zret C hQ hr dX20_isDone_24
  · refine gx_aload_n C dX20_isDone_7 2 rfl ?_
    refine gx_gR (O := "BorrowedLives$State") (nm := "purse") (ds := "[I") (fin := true) C E dX20_isDone_8 (by decide +kernel) (Or.inr ⟨_, q291⟩) (fun _ h => h) (fun v8 => ?_)
    refine gx_aload_n C dX20_isDone_11 0 rfl ?_
    refine gx_gI (O := "BorrowedLives$Hidden") (nm := "life") (ds := "I") (fin := true) C E dX20_isDone_12 (by decide +kernel) (Or.inl q1160) (fun _ h => h) (fun v12 => ?_)
    refine gx_iald C E dX20_isDone_15 (fun v15 => ?_)
    refine gx_aload_n C dX20_isDone_16 0 rfl ?_
    refine gx_gI (O := "BorrowedLives$Hidden") (nm := "coins") (ds := "I") (fin := true) C E dX20_isDone_17 (by decide +kernel) (Or.inl q1161) (fun _ h => h) (fun v17 => ?_)
    refine gj_icmp_ge (tgt := 25) C dX20_isDone_20 (by decide) rfl rfl (fun h20 => gj_neg h20 ?_) (fun h20 => gj_pos h20 ?_)
    · refine gx_aload_n C dX20_isDone_25 2 rfl ?_
      refine gx_gR (O := "BorrowedLives$State") (nm := "hidden") (ds := "[I") (fin := true) C E dX20_isDone_26 (by decide +kernel) (Or.inr ⟨_, q298⟩) (fun _ h => h) (fun v26 => ?_)
      refine gx_aload_n C dX20_isDone_29 0 rfl ?_
      refine gx_gI (O := "BorrowedLives$Hidden") (nm := "life") (ds := "I") (fin := true) C E dX20_isDone_30 (by decide +kernel) (Or.inl q1160) (fun _ h => h) (fun v30 => ?_)
      refine gx_aload_n C dX20_isDone_33 0 rfl ?_
      refine gx_gI (O := "BorrowedLives$Hidden") (nm := "coins") (ds := "I") (fin := true) C E dX20_isDone_34 (by decide +kernel) (Or.inl q1161) (fun _ h => h) (fun v34 => ?_)
      refine gx_iast C E dX20_isDone_37 ?_
      refine gj_iconst C dX20_isDone_38 ?_
      exact gx_zret C hQ hr dX20_isDone_39
    · refine gj_iconst C dX20_isDone_23 ?_
      exact gx_zret C hQ hr dX20_isDone_24
def x21_isDone (a0 a1 a2 : Option Nat) : PT Hp Int :=
  pbnd (xgI a0 18 0) fun v3 =>
  pbnd (xgI a0 18 1) fun v7 =>
  pbnd (xrecv a1 1) fun _ =>
  pbnd (x1_canSwap a1 a2 v3 v7) fun v10 =>
  pite (w32 v10 = 0) (
    pbnd (pzo 0) fun _ => pret 0) (
    pbnd (xgI a0 18 0) fun v21 =>
    pbnd (xgI a0 18 1) fun v25 =>
    pbnd (xrecv a1 1) fun _ =>
    pbnd (x1_swaps a1 a2 v21 v25) fun _ =>
    pbnd (pzo 1) fun _ => pret 1)
set_option maxHeartbeats 4000000 in
set_option maxRecDepth 100000 in
theorem mx21_isDone (l : Launch) (g : XG) (a0 a1 a2 : Option Nat) : XMet l g yX21_isDone cX21_isDone 3 (Option.some Jvm.ClassFile.FieldType.boolean) (6) [rv g a0, rv g a1, rv g a2] (x21_isDone a0 a1 a2) rvI := by
  refine gx_start (by decide +kernel) (by have e := lg_sl_len [rv g a0, rv g a1, rv g a2]; simp only [List.map_cons, List.map_nil, List.sum_cons, List.sum_nil, rv_cat, cat_int, cat_long] at e; omega) (fun X Q σ0 hl C E hQ hR hr hnm => ?_)
  subst hl
  rw [show lv_args 0 [rv g a0, rv g a1, rv g a2] = [(0, rv g a0), (1, rv g a1), (2, rv g a2)] from by simp [lv_args, rv_cat, cat_int, cat_long]]
  show GJ X 3 (xWo g σ0 (cx_s X).heap) Q (x21_isDone a0 a1 a2) 0 [(0, rv g a0), (1, rv g a1), (2, rv g a2)] []
  unfold x21_isDone
  refine gx_aload_n C dX21_isDone_0 1 rfl ?_
  refine gx_aload_n C dX21_isDone_1 2 rfl ?_
  refine gx_aload_n C dX21_isDone_2 0 rfl ?_
  refine gx_gI (O := "BorrowedLives$Swapped") (nm := "one") (ds := "I") (fin := true) C E dX21_isDone_3 (by decide +kernel) (Or.inl q1177) (fun _ h => h) (fun v3 => ?_)
  refine gx_aload_n C dX21_isDone_6 0 rfl ?_
  refine gx_gI (O := "BorrowedLives$Swapped") (nm := "other") (ds := "I") (fin := true) C E dX21_isDone_7 (by decide +kernel) (Or.inl q1178) (fun _ h => h) (fun v7 => ?_)
  refine gx_callVNI (t0 := 1) (As := [rv g a2, .int (iI v3), .int (iI v7)]) (rest := []) C E rfl dX21_isDone_10 (mx1_canSwap (cx_l X) g a1 a2 v3 v7) (lw_meth q1496) q125 q1546 q1495 qs43 hyx_X1_canSwap rfl hR (Nat.le_of_ble_eq_true rfl) (by decide) rfl rfl (Nat.zero_le _) (fun v10 => ?_)
  refine gj_if_ne (tgt := 18) C dX21_isDone_13 (by decide) (fun h13 => gj_neg h13 ?_) (fun h13 => gj_pos h13 ?_)
  · refine gx_aload_n C dX21_isDone_18 1 rfl ?_
    refine gx_aload_n C dX21_isDone_19 2 rfl ?_
    refine gx_aload_n C dX21_isDone_20 0 rfl ?_
    refine gx_gI (O := "BorrowedLives$Swapped") (nm := "one") (ds := "I") (fin := true) C E dX21_isDone_21 (by decide +kernel) (Or.inl q1177) (fun _ h => h) (fun v21 => ?_)
    refine gx_aload_n C dX21_isDone_24 0 rfl ?_
    refine gx_gI (O := "BorrowedLives$Swapped") (nm := "other") (ds := "I") (fin := true) C E dX21_isDone_25 (by decide +kernel) (Or.inl q1178) (fun _ h => h) (fun v25 => ?_)
    refine gx_callVNV (t0 := 1) (As := [rv g a2, .int (iI v21), .int (iI v25)]) (rest := []) C E rfl dX21_isDone_28 (mx1_swaps (cx_l X) g a1 a2 v21 v25) (lw_meth q1500) q125 q1547 q1499 qs44 hyx_X1_swaps rfl hR (Nat.le_of_ble_eq_true rfl) (by decide) rfl rfl (Nat.zero_le _) ?_
    refine gj_iconst C dX21_isDone_31 ?_
    exact gx_zret C hQ hr dX21_isDone_32
  · refine gj_iconst C dX21_isDone_16 ?_
    exact gx_zret C hQ hr dX21_isDone_17
def x1_judged_j66 (a0 : Option Nat) (a1 a2 a3 : Int) (bk27 : (Int × Int) → PT Hp Int) : PT Hp Int :=
  bk27 (a2, a3 + 1)
def x1_judged_b27 (a0 : Option Nat) (a1 : Int) (a2 a3 : Int) (bk27 : (Int × Int) → PT Hp Int) : PT Hp Int :=
  pbnd (xgR a0 1 3) fun v29 =>
  pbnd (xrecv v29 26) fun _ =>
  pbnd (j2_size v29) fun v32 =>
  pite (w32 a3 < w32 v32) (
    pbnd (xgR a0 1 3) fun v39 =>
    pbnd (xrecv v39 26) fun _ =>
    pbnd (j2_get v39 a3) fun v43 =>
    pbnd (xcast v43 [14, 15, 16, 17, 18]) fun _ =>
    pbnd (xgR a0 1 5) fun v51 =>
    pbnd (xdisp v43 [(14, x17_isDone v43 a0 v51), (15, x18_isDone v43 a0 v51), (16, x19_isDone v43 a0 v51), (17, x20_isDone v43 a0 v51), (18, x21_isDone v43 a0 v51)]) fun v54 =>
    pite (w32 v54 = 0) (
      pite (w32 a2 < 0) (
        x1_judged_j66 a0 a1 a3 a3 bk27) (
        x1_judged_j66 a0 a1 a2 a3 bk27)) (
      x1_judged_j66 a0 a1 a2 a3 bk27)) (
    pite (w32 a1 = 0) (
      pret (w32 a2)) (
      pite (w32 a1 = 1) (
        pbnd (xgR a0 1 5) fun v86 =>
        pbnd (xgI v86 4 9) fun v89 =>
        pret v89) (
        pbnd (xgR a0 1 5) fun v96 =>
        pbnd (xgI v96 4 10) fun v99 =>
        pret v99)))
def x1_judged_l27 (a0 : Option Nat) (a1 a2 a3 : Int) : PT Hp Int :=
  ploop (fun (s : (Int × Int)) bk27 => x1_judged_b27 a0 a1 s.1 s.2 bk27) (a2, a3)
def x1_judged (a0 : Option Nat) (a1 : Int) : PT Hp Int :=
  pbnd (x1_in a1 0 2) fun v3 =>
  pite (w32 v3 = 0) (
    pret (-2)) (
    pbnd (xgR a0 1 5) fun v13 =>
    pbnd (xgR a0 1 2) fun v17 =>
    pbnd (xrecv v13 4) fun _ =>
    pbnd (x4_begin v13 v17) fun _ =>
    x1_judged_l27 a0 a1 (-1) 0)
set_option maxHeartbeats 4000000 in
set_option maxRecDepth 100000 in
theorem mx1_judged (l : Launch) (g : XG) (a0 : Option Nat) (a1 : Int) : XMet l g yX1_judged cX1_judged 4 (Option.some Jvm.ClassFile.FieldType.int) (721) [rv g a0, .int (iI a1)] (x1_judged a0 a1) rvI := by
  refine gx_start (by decide +kernel) (by have e := lg_sl_len [rv g a0, .int (iI a1)]; simp only [List.map_cons, List.map_nil, List.sum_cons, List.sum_nil, rv_cat, cat_int, cat_long] at e; omega) (fun X Q σ0 hl C E hQ hR hr hnm => ?_)
  subst hl
  rw [show lv_args 0 [rv g a0, .int (iI a1)] = [(0, rv g a0), (1, .int (iI a1))] from by simp [lv_args, rv_cat, cat_int, cat_long]]
  show GJ X 4 (xWo g σ0 (cx_s X).heap) Q (x1_judged a0 a1) 0 [(0, rv g a0), (1, .int (iI a1))] []
  have J27 : ∀ (a0 : Option Nat) (a1 a2 a3 : Int), GJ X 4 (xWo g σ0 (cx_s X).heap) Q (x1_judged_l27 a0 a1 a2 a3) 27 [(0, rv g a0), (1, .int (iI a1)), (2, .int (iI a2)), (3, .int (iI a3))] [] := by
    intro a0 a1 a2 a3
    unfold x1_judged_l27
    refine gj_loop (fun (s : (Int × Int)) => [(0, rv g a0), (1, .int (iI a1)), (2, .int (iI (s.1))), (3, .int (iI (s.2)))]) (a2, a3) (fun bk27 hb27 s => ?_)
    obtain ⟨a2, a3⟩ := s
    show GJ X 4 (xWo g σ0 (cx_s X).heap) Q (x1_judged_b27 a0 a1 a2 a3 bk27) 27 [(0, rv g a0), (1, .int (iI a1)), (2, .int (iI a2)), (3, .int (iI a3))] []
    have J66 : ∀ (a2 a3 : Int), GJ X 4 (xWo g σ0 (cx_s X).heap) Q (x1_judged_j66 a0 a1 a2 a3 bk27) 66 [(0, rv g a0), (1, .int (iI a1)), (2, .int (iI a2)), (3, .int (iI a3))] [] := by
      intro a2 a3
      unfold x1_judged_j66
      refine gj_iinc (L' := [(3, _), (0, _), (1, _), (2, _)]) C dX1_judged_66 3 rfl (by decide) rfl ?_
      refine gj_goto (tgt := 27) C dX1_judged_69 (by decide) ?_
      exact gj_to [1, 2, 3, 0] (hb27 (a2, a3 + 1)) rfl
    unfold x1_judged_b27
    refine gj_iload_n C dX1_judged_27 3 rfl ?_
    refine gx_aload_n C dX1_judged_28 0 rfl ?_
    refine gx_gR (O := "BorrowedLives") (nm := "lines") (ds := "Ljava/util/ArrayList;") (fin := false) C E dX1_judged_29 (by decide +kernel) (Or.inl q378) (fun _ h => h) (fun v29 => ?_)
    refine gx_callVI (t0 := 26) (As := []) (rest := [.int (iI a3)]) C E rfl dX1_judged_32 (mj2_size (cx_l X) g v29) (lw_V q1196 q351 q352 q130 q353) hyx_J2_size rfl hR (Nat.le_of_ble_eq_true rfl) (by decide) rfl rfl (Nat.le_of_ble_eq_true rfl) (fun v32 => ?_)
    refine gj_icmp_ge (tgt := 72) C dX1_judged_35 (by decide) rfl rfl (fun h35 => gj_neg h35 ?_) (fun h35 => gj_pos h35 ?_)
    · refine gj_iload_n C dX1_judged_72 1 rfl ?_
      refine gj_if_ne (tgt := 80) C dX1_judged_73 (by decide) (fun h73 => gj_neg h73 ?_) (fun h73 => gj_pos h73 ?_)
      · refine gj_iload_n C dX1_judged_80 1 rfl ?_
        refine gj_iconst C dX1_judged_81 ?_
        refine gj_icmp_ne (tgt := 95) (b' := 1) C dX1_judged_82 (by decide) rfl (by decide) (fun h82 => gj_neg h82 ?_) (fun h82 => gj_pos h82 ?_)
        · refine gx_aload_n C dX1_judged_95 0 rfl ?_
          refine gx_gR (O := "BorrowedLives") (nm := "trial") (ds := "LBorrowedLives$State;") (fin := true) C E dX1_judged_96 (by decide +kernel) (Or.inl q382) (fun _ h => h) (fun v96 => ?_)
          refine gx_gI (O := "BorrowedLives$State") (nm := "harm") (ds := "I") (fin := false) C E dX1_judged_99 (by decide +kernel) (Or.inr ⟨_, q316⟩) (fun _ h => h) (fun v99 => ?_)
          exact gx_iret C hQ hr dX1_judged_102
        · refine gx_aload_n C dX1_judged_85 0 rfl ?_
          refine gx_gR (O := "BorrowedLives") (nm := "trial") (ds := "LBorrowedLives$State;") (fin := true) C E dX1_judged_86 (by decide +kernel) (Or.inl q382) (fun _ h => h) (fun v86 => ?_)
          refine gx_gI (O := "BorrowedLives$State") (nm := "homes") (ds := "I") (fin := false) C E dX1_judged_89 (by decide +kernel) (Or.inr ⟨_, q314⟩) (fun _ h => h) (fun v89 => ?_)
          refine gj_goto (tgt := 102) C dX1_judged_92 (by decide) ?_
          exact gx_iret C hQ hr dX1_judged_102
      · refine gj_iload_n C dX1_judged_76 2 rfl ?_
        refine gj_goto (tgt := 102) C dX1_judged_77 (by decide) ?_
        refine gj_nrmI ?_
        exact gx_iret C hQ hr dX1_judged_102
    · refine gx_aload_n C dX1_judged_38 0 rfl ?_
      refine gx_gR (O := "BorrowedLives") (nm := "lines") (ds := "Ljava/util/ArrayList;") (fin := false) C E dX1_judged_39 (by decide +kernel) (Or.inl q378) (fun _ h => h) (fun v39 => ?_)
      refine gj_iload_n C dX1_judged_42 3 rfl ?_
      refine gx_callVR (t0 := 26) (As := [.int (iI a3)]) (rest := []) C E rfl dX1_judged_43 (mj2_get (cx_l X) g v39 a3) (lw_V q1204 q355 q356 q130 q357) hyx_J2_get rfl hR (Nat.le_of_ble_eq_true rfl) (by decide) rfl rfl (Nat.zero_le _) (fun v43 => ?_)
      refine gx_cast C E dX1_judged_46 q1523 xc_BorrowedLives_Line ?_
      refine gx_aload_n C dX1_judged_49 0 rfl ?_
      refine gx_aload_n C dX1_judged_50 0 rfl ?_
      refine gx_gR (O := "BorrowedLives") (nm := "trial") (ds := "LBorrowedLives$State;") (fin := true) C E dX1_judged_51 (by decide +kernel) (Or.inl q382) (fun _ h => h) (fun v51 => ?_)
      refine gx_shI (rest := []) (fun kk => ?_) (fun v54 => ?_)
      · refine gx_dcons (gx_callAI (x := ⟨"BorrowedLives$Line", "isDone", "(LBorrowedLives;LBorrowedLives$State;)Z"⟩) (owner := "BorrowedLives$Line") (t0 := 14) (As := [rv g a0, rv g v51]) (rest := []) C E rfl dX1_judged_54 (mx17_isDone (cx_l X) g v43 a0 v51) q1524 q1526 q1527 q1528 q159 q1529 q1525 hy9_X16_isDone hR (Nat.le_of_ble_eq_true rfl) (by decide) rfl rfl (Nat.zero_le _) kk) ?_
        refine gx_dcons (gx_callAI (x := ⟨"BorrowedLives$Line", "isDone", "(LBorrowedLives;LBorrowedLives$State;)Z"⟩) (owner := "BorrowedLives$Line") (t0 := 15) (As := [rv g a0, rv g v51]) (rest := []) C E rfl dX1_judged_54 (mx18_isDone (cx_l X) g v43 a0 v51) q1524 q1526 q1538 q1539 q160 q1540 q1525 hy9_X16_isDone hR (Nat.le_of_ble_eq_true rfl) (by decide) rfl rfl (Nat.zero_le _) kk) ?_
        refine gx_dcons (gx_callAI (x := ⟨"BorrowedLives$Line", "isDone", "(LBorrowedLives;LBorrowedLives$State;)Z"⟩) (owner := "BorrowedLives$Line") (t0 := 16) (As := [rv g a0, rv g v51]) (rest := []) C E rfl dX1_judged_54 (mx19_isDone (cx_l X) g v43 a0 v51) q1524 q1526 q1531 q1532 q161 q1533 q1525 hy9_X16_isDone hR (Nat.le_of_ble_eq_true rfl) (by decide) rfl rfl (Nat.zero_le _) kk) ?_
        refine gx_dcons (gx_callAI (x := ⟨"BorrowedLives$Line", "isDone", "(LBorrowedLives;LBorrowedLives$State;)Z"⟩) (owner := "BorrowedLives$Line") (t0 := 17) (As := [rv g a0, rv g v51]) (rest := []) C E rfl dX1_judged_54 (mx20_isDone (cx_l X) g v43 a0 v51) q1524 q1526 q1535 q1536 q162 q1537 q1525 hy9_X16_isDone hR (Nat.le_of_ble_eq_true rfl) (by decide) rfl rfl (Nat.zero_le _) kk) ?_
        refine gx_dcons (gx_callAI (x := ⟨"BorrowedLives$Line", "isDone", "(LBorrowedLives;LBorrowedLives$State;)Z"⟩) (owner := "BorrowedLives$Line") (t0 := 18) (As := [rv g a0, rv g v51]) (rest := []) C E rfl dX1_judged_54 (mx21_isDone (cx_l X) g v43 a0 v51) q1524 q1526 q1543 q1544 q163 q1545 q1525 hy9_X16_isDone hR (Nat.le_of_ble_eq_true rfl) (by decide) rfl rfl (Nat.zero_le _) kk) ?_
        exact gx_dnil
      refine gj_if_ne (tgt := 66) C dX1_judged_57 (by decide) (fun h57 => gj_neg h57 ?_) (fun h57 => gj_pos h57 ?_)
      · exact gj_to [0, 1, 2, 3] (J66 a2 a3) rfl
      · refine gj_iload_n C dX1_judged_60 2 rfl ?_
        refine gj_if_ge (tgt := 66) C dX1_judged_61 (by decide) (fun h61 => gj_neg h61 ?_) (fun h61 => gj_pos h61 ?_)
        · exact gj_to [0, 1, 2, 3] (J66 a2 a3) rfl
        · refine gj_iload_n C dX1_judged_64 3 rfl ?_
          refine gj_istore_n (L' := [(2, _), (0, _), (1, _), (3, _)]) C dX1_judged_65 (by decide) rfl ?_
          exact gj_to [1, 2, 0, 3] (J66 a3 a3) rfl
  unfold x1_judged
  refine gj_iload_n C dX1_judged_0 1 rfl ?_
  refine gj_iconst C dX1_judged_1 ?_
  refine gj_iconst C dX1_judged_2 ?_
  refine gx_callSI (As := [.int (iI a1), .int (iI 0), .int (iI 2)]) (rest := []) C E dX1_judged_3 (mx1_in (cx_l X) g a1 0 2) (lw_S q1197 q1198 q125 q1199) hyx_X1_in hR (Nat.le_of_ble_eq_true rfl) (by decide) rfl rfl (Nat.zero_le _) (fun v3 => ?_)
  refine gj_if_ne (tgt := 12) C dX1_judged_6 (by decide) (fun h6 => gj_neg h6 ?_) (fun h6 => gj_pos h6 ?_)
  · refine gx_aload_n C dX1_judged_12 0 rfl ?_
    refine gx_gR (O := "BorrowedLives") (nm := "trial") (ds := "LBorrowedLives$State;") (fin := true) C E dX1_judged_13 (by decide +kernel) (Or.inl q382) (fun _ h => h) (fun v13 => ?_)
    refine gx_aload_n C dX1_judged_16 0 rfl ?_
    refine gx_gR (O := "BorrowedLives") (nm := "town") (ds := "LBorrowedLives$Town;") (fin := false) C E dX1_judged_17 (by decide +kernel) (Or.inl q377) (fun _ h => h) (fun v17 => ?_)
    refine gx_callVV (t0 := 4) (As := [rv g v17]) (rest := []) C E rfl dX1_judged_20 (mx4_begin (cx_l X) g v13 v17) (lw_V q346 q347 q348 q131 q349) hyx_X4_begin rfl hR (Nat.le_of_ble_eq_true rfl) (by decide) rfl rfl (Nat.zero_le _) ?_
    refine gj_iconst C dX1_judged_23 ?_
    refine gj_istore_n (L' := [(2, _), (0, _), (1, _)]) C dX1_judged_24 (by decide) rfl ?_
    refine gj_iconst C dX1_judged_25 ?_
    refine gj_istore_n (L' := [(3, _), (2, _), (0, _), (1, _)]) C dX1_judged_26 (by decide) rfl ?_
    exact gj_to [2, 3, 1, 0] (J27 a0 a1 (-1) 0) rfl
  · refine gj_bipush C dX1_judged_9 rfl ?_
    exact gx_iret C hQ hr dX1_judged_11
def x25_init (a0 a1 : Option Nat) : PT Hp Unit :=
  pbnd (xpR a0 21 4 a1) fun _ =>
  pbnd (xnn a0) fun _ =>
  pbnd (x22_init a0 a1) fun _ =>
  pbnd (xnewa 40 6) fun v13 =>
  pbnd (xpR a0 21 2 v13) fun _ =>
  pret ()
set_option maxHeartbeats 4000000 in
set_option maxRecDepth 100000 in
theorem mx25_init (l : Launch) (g : XG) (a0 a1 : Option Nat) : XMet l g yX25_init cX25_init 2 (Option.none : Option Jvm.ClassFile.FieldType) (2) [rv g a0, rv g a1] (x25_init a0 a1) rvV := by
  refine gx_start (by decide +kernel) (by have e := lg_sl_len [rv g a0, rv g a1]; simp only [List.map_cons, List.map_nil, List.sum_cons, List.sum_nil, rv_cat, cat_int, cat_long] at e; omega) (fun X Q σ0 hl C E hQ hR hr hnm => ?_)
  subst hl
  rw [show lv_args 0 [rv g a0, rv g a1] = [(0, rv g a0), (1, rv g a1)] from by simp [lv_args, rv_cat, cat_int, cat_long]]
  show GJ X 2 (xWo g σ0 (cx_s X).heap) Q (x25_init a0 a1) 0 [(0, rv g a0), (1, rv g a1)] []
  unfold x25_init
  refine gx_aload_n C dX25_init_0 0 rfl ?_
  refine gx_aload_n C dX25_init_1 1 rfl ?_
  refine gx_pR (O := "BorrowedLives$Least") (nm := "this$0") (ds := "LBorrowedLives;") (fin := true) (ty := (.object "BorrowedLives")) C E dX25_init_2 (by decide +kernel) (Or.inl q1562) (fun _ h => h) (fun _ => ⟨hnm, rfl⟩) (by decide +kernel) (by decide) ?_
  refine gx_aload_n C dX25_init_5 0 rfl ?_
  refine gx_aload_n C dX25_init_6 1 rfl ?_
  refine gx_callINV (As := [rv g a1]) (rest := []) C E dX25_init_7 (mx22_init (cx_l X) g a0 a1) (lw_meth q1257) q164 q1557 q1256 rfl hyx_X22_init hR (Nat.le_of_ble_eq_true rfl) (by decide) rfl rfl (Nat.zero_le _) ?_
  refine gx_aload_n C dX25_init_10 0 rfl ?_
  refine gj_bipush C dX25_init_11 rfl ?_
  refine gx_newa (t0 := 0) C E dX25_init_13 (by decide) rfl q340 (by decide) rfl (fun v13 => ?_)
  refine gx_pR (O := "BorrowedLives$Least") (nm := "best") (ds := "[I") (fin := true) (ty := (.array .int)) C E dX25_init_15 (by decide +kernel) (Or.inl q1558) (fun _ h => h) (fun _ => ⟨hnm, rfl⟩) (by decide +kernel) (by decide) ?_
  exact gx_vret C hQ hr dX25_init_18
def x1_least_j16 (a0 : Option Nat) (a1 : Int) : PT Hp Int :=
  pbnd (xnew 21) fun v16 =>
  pbnd (xnn v16) fun _ =>
  pbnd (x25_init v16 a0) fun _ =>
  pbnd (xrecv a0 1) fun _ =>
  pbnd (x1_shows a0 v16) fun _ =>
  pbnd (xgI v16 21 0) fun v31 =>
  pite (w32 v31 = 0) (
    pret (-2)) (
    pite (w32 a1 = (-1)) (
      pbnd (xgI v16 21 3) fun v48 =>
      pret v48) (
      pbnd (xgR v16 21 2) fun v55 =>
      pbnd (xld v55 40 a1) fun v59 =>
      pret v59))
def x1_least (a0 : Option Nat) (a1 : Int) : PT Hp Int :=
  pite (w32 a1 = (-1)) (
    x1_least_j16 a0 a1) (
    pbnd (xrecv a0 1) fun _ =>
    pbnd (x1_isPerson a0 a1) fun v7 =>
    pite (w32 v7 = 0) (
      pret (-2)) (
      x1_least_j16 a0 a1))
set_option maxHeartbeats 4000000 in
set_option maxRecDepth 100000 in
theorem mx1_least (l : Launch) (g : XG) (a0 : Option Nat) (a1 : Int) : XMet l g yX1_least cX1_least 3 (Option.some Jvm.ClassFile.FieldType.int) (718) [rv g a0, .int (iI a1)] (x1_least a0 a1) rvI := by
  refine gx_start (by decide +kernel) (by have e := lg_sl_len [rv g a0, .int (iI a1)]; simp only [List.map_cons, List.map_nil, List.sum_cons, List.sum_nil, rv_cat, cat_int, cat_long] at e; omega) (fun X Q σ0 hl C E hQ hR hr hnm => ?_)
  subst hl
  rw [show lv_args 0 [rv g a0, .int (iI a1)] = [(0, rv g a0), (1, .int (iI a1))] from by simp [lv_args, rv_cat, cat_int, cat_long]]
  show GJ X 3 (xWo g σ0 (cx_s X).heap) Q (x1_least a0 a1) 0 [(0, rv g a0), (1, .int (iI a1))] []
  have J16 : ∀ (a0 : Option Nat) (a1 : Int), GJ X 3 (xWo g σ0 (cx_s X).heap) Q (x1_least_j16 a0 a1) 16 [(0, rv g a0), (1, .int (iI a1))] [] := by
    intro a0 a1
    unfold x1_least_j16
    refine gx_new (t0 := 21) C E dX1_least_16 rfl q1552 q1553 q167 (fun v16 => ?_)
    refine gx_dup C dX1_least_19 ?_
    refine gx_aload_n C dX1_least_20 0 rfl ?_
    refine gx_callINV (As := [rv g a0]) (rest := [rv g v16]) C E dX1_least_21 (mx25_init (cx_l X) g v16 a0) (lw_meth q1556) q167 q1554 q1555 rfl hyx_X25_init hR (Nat.le_of_ble_eq_true rfl) (by decide) rfl rfl (by simp only [List.map_cons, List.map_nil, List.sum_cons, List.sum_nil, rv_cat, cat_int, cat_long]; decide) ?_
    refine gx_astore_n (L' := [(2, _), (0, _), (1, _)]) C dX1_least_24 (by decide) rfl ?_
    refine gx_aload_n C dX1_least_25 1 rfl ?_
    refine gx_aload_n C dX1_least_26 0 rfl ?_
    refine gx_callVV (t0 := 1) (As := [rv g v16]) (rest := []) C E rfl dX1_least_27 (mx1_shows (cx_l X) g a0 v16) (lw_V q1288 q1290 qs32 q125 q1291) hyx_X1_shows rfl hR (Nat.le_of_ble_eq_true rfl) (by decide) rfl rfl (Nat.zero_le _) ?_
    refine gx_aload_n C dX1_least_30 0 rfl ?_
    refine gx_gI (O := "BorrowedLives$Looker") (nm := "lots") (ds := "I") (fin := false) C E dX1_least_31 (by decide +kernel) (Or.inl q1271) (fun x h => u_same (C.2.2.2.2.2 _ q1267) x h) (fun v31 => ?_)
    refine gj_if_ne (tgt := 42) C dX1_least_34 (by decide) (fun h34 => gj_neg h34 ?_) (fun h34 => gj_pos h34 ?_)
    · refine gj_iload_n C dX1_least_42 2 rfl ?_
      refine gj_iconst C dX1_least_43 ?_
      refine gj_icmp_ne (tgt := 54) (b' := (-1)) C dX1_least_44 (by decide) rfl (by decide) (fun h44 => gj_neg h44 ?_) (fun h44 => gj_pos h44 ?_)
      · refine gx_aload_n C dX1_least_54 0 rfl ?_
        refine gx_gR (O := "BorrowedLives$Least") (nm := "best") (ds := "[I") (fin := true) C E dX1_least_55 (by decide +kernel) (Or.inr ⟨_, q1559⟩) (fun _ h => h) (fun v55 => ?_)
        refine gj_iload_n C dX1_least_58 2 rfl ?_
        refine gx_iald C E dX1_least_59 (fun v59 => ?_)
        exact gx_iret C hQ hr dX1_least_60
      · refine gx_aload_n C dX1_least_47 0 rfl ?_
        refine gx_gI (O := "BorrowedLives$Least") (nm := "harm") (ds := "I") (fin := false) C E dX1_least_48 (by decide +kernel) (Or.inr ⟨_, q1561⟩) (fun _ h => h) (fun v48 => ?_)
        refine gj_goto (tgt := 60) C dX1_least_51 (by decide) ?_
        exact gx_iret C hQ hr dX1_least_60
    · refine gj_bipush C dX1_least_37 rfl ?_
      refine gj_goto (tgt := 60) C dX1_least_39 (by decide) ?_
      exact gx_iret C hQ hr dX1_least_60
  unfold x1_least
  refine gj_iload_n C dX1_least_0 1 rfl ?_
  refine gj_iconst C dX1_least_1 ?_
  refine gj_icmp_eq (tgt := 16) (b' := (-1)) C dX1_least_2 (by decide) rfl (by decide) (fun h2 => gj_pos h2 ?_) (fun h2 => gj_neg h2 ?_)
  · exact gj_to [0, 1] (J16 a0 a1) rfl
  · refine gx_aload_n C dX1_least_5 0 rfl ?_
    refine gj_iload_n C dX1_least_6 1 rfl ?_
    refine gx_callVI (t0 := 1) (As := [.int (iI a1)]) (rest := []) C E rfl dX1_least_7 (mx1_isPerson (cx_l X) g a0 a1) (lw_V q1188 q1190 qs28 q125 q1191) hyx_X1_isPerson rfl hR (Nat.le_of_ble_eq_true rfl) (by decide) rfl rfl (Nat.zero_le _) (fun v7 => ?_)
    refine gj_if_ne (tgt := 16) C dX1_least_10 (by decide) (fun h10 => gj_neg h10 ?_) (fun h10 => gj_pos h10 ?_)
    · exact gj_to [0, 1] (J16 a0 a1) rfl
    · refine gj_bipush C dX1_least_13 rfl ?_
      exact gx_iret C hQ hr dX1_least_15
def x26_init (a0 a1 : Option Nat) (a2 a3 : Int) : PT Hp Unit :=
  pbnd (xpR a0 22 5 a1) fun _ =>
  pbnd (xnn a0) fun _ =>
  pbnd (x22_init a0 a1) fun _ =>
  pbnd (xpI a0 22 2 (w32 a2)) fun _ =>
  pbnd (xpI a0 22 3 (w32 a3)) fun _ =>
  pret ()
set_option maxHeartbeats 4000000 in
set_option maxRecDepth 100000 in
theorem mx26_init (l : Launch) (g : XG) (a0 a1 : Option Nat) (a2 a3 : Int) : XMet l g yX26_init cX26_init 4 (Option.none : Option Jvm.ClassFile.FieldType) (2) [rv g a0, rv g a1, .int (iI a2), .int (iI a3)] (x26_init a0 a1 a2 a3) rvV := by
  refine gx_start (by decide +kernel) (by have e := lg_sl_len [rv g a0, rv g a1, .int (iI a2), .int (iI a3)]; simp only [List.map_cons, List.map_nil, List.sum_cons, List.sum_nil, rv_cat, cat_int, cat_long] at e; omega) (fun X Q σ0 hl C E hQ hR hr hnm => ?_)
  subst hl
  rw [show lv_args 0 [rv g a0, rv g a1, .int (iI a2), .int (iI a3)] = [(0, rv g a0), (1, rv g a1), (2, .int (iI a2)), (3, .int (iI a3))] from by simp [lv_args, rv_cat, cat_int, cat_long]]
  show GJ X 4 (xWo g σ0 (cx_s X).heap) Q (x26_init a0 a1 a2 a3) 0 [(0, rv g a0), (1, rv g a1), (2, .int (iI a2)), (3, .int (iI a3))] []
  unfold x26_init
  refine gx_aload_n C dX26_init_0 0 rfl ?_
  refine gx_aload_n C dX26_init_1 1 rfl ?_
  refine gx_pR (O := "BorrowedLives$Harms") (nm := "this$0") (ds := "LBorrowedLives;") (fin := true) (ty := (.object "BorrowedLives")) C E dX26_init_2 (by decide +kernel) (Or.inl q1586) (fun _ h => h) (fun _ => ⟨hnm, rfl⟩) (by decide +kernel) (by decide) ?_
  refine gx_aload_n C dX26_init_5 0 rfl ?_
  refine gx_aload_n C dX26_init_6 1 rfl ?_
  refine gx_callINV (As := [rv g a1]) (rest := []) C E dX26_init_7 (mx22_init (cx_l X) g a0 a1) (lw_meth q1257) q164 q1581 q1256 rfl hyx_X22_init hR (Nat.le_of_ble_eq_true rfl) (by decide) rfl rfl (Nat.zero_le _) ?_
  refine gx_aload_n C dX26_init_10 0 rfl ?_
  refine gj_iload_n C dX26_init_11 2 rfl ?_
  refine gj_nrmI ?_
  refine gx_pI (O := "BorrowedLives$Harms") (nm := "life") (ds := "I") (fin := true) (ty := .int) C E dX26_init_12 (by decide +kernel) (Or.inl q1582) (fun _ h => h) (fun _ => ⟨hnm, rfl⟩) (by decide +kernel) (inty_int _) ?_
  refine gx_aload_n C dX26_init_15 0 rfl ?_
  refine gj_iload_n C dX26_init_16 3 rfl ?_
  refine gj_nrmI ?_
  refine gx_pI (O := "BorrowedLives$Harms") (nm := "sign") (ds := "I") (fin := true) (ty := .int) C E dX26_init_17 (by decide +kernel) (Or.inl q1583) (fun _ h => h) (fun _ => ⟨hnm, rfl⟩) (by decide +kernel) (inty_int _) ?_
  exact gx_vret C hQ hr dX26_init_20
def x1_prepare_j146 (a0 : Option Nat) (a1 a2 a3 a4 a6 a8 : Int) (bk30 : (Int × Int × Int × Int) → PT Hp Int) : PT Hp Int :=
  bk30 (a3, a4, a6, a8 + 25)
def x1_prepare_j118 (a0 : Option Nat) (a1 a2 a8 : Int) (a9 : Option Nat) (bk30 : (Int × Int × Int × Int) → PT Hp Int) : PT Hp Int :=
  pbnd (xgI a9 22 4) fun v123 =>
  pbnd (xgI a9 22 4) fun v130 =>
  pbnd (xgI a9 22 0) fun v139 =>
  pbnd (pnzl (zi2l v139)) fun _ =>
  plet (ldiv' ((v130 * 1000)) (zi2l v139)) fun x144 =>
  x1_prepare_j146 a0 a1 a2 a8 v123 x144 a8 bk30
def x1_prepare_b30 (a0 : Option Nat) (a1 a2 : Int) (a3 a4 a6 a8 : Int) (bk30 : (Int × Int × Int × Int) → PT Hp Int) : PT Hp Int :=
  pbnd (xgR a0 1 4) fun v33 =>
  pbnd (xgR v33 4 0) fun v36 =>
  pbnd (xld v36 40 a1) fun v40 =>
  pite (w32 v40 < w32 a8) (
    plet (if w32 a2 = 0 then a3 else zl2i a6) fun d163 =>
    pret (w32 d163)) (
    pbnd (xgR a0 1 5) fun v45 =>
    pbnd (xgR a0 1 4) fun v49 =>
    pbnd (xrecv v45 4) fun _ =>
    pbnd (x4_be v45 v49) fun _ =>
    pbnd (xgR a0 1 5) fun v56 =>
    pbnd (xgR v56 4 3) fun v59 =>
    pbnd (xst v59 40 a1 (w32 a8)) fun _ =>
    pbnd (xnew 22) fun v66 =>
    pbnd (xgR a0 1 2) fun v73 =>
    pbnd (xrecv v73 3) fun _ =>
    pbnd (x3_sign v73) fun v76 =>
    pbnd (xnn v66) fun _ =>
    pbnd (x26_init v66 a0 a1 v76) fun _ =>
    pbnd (xrecv a0 1) fun _ =>
    pbnd (x1_shows a0 v66) fun _ =>
    pbnd (xgI v66 22 0) fun v92 =>
    pite (w32 v92 = 0) (
      pret (-1)) (
      pite (w32 a3 < 0) (
        x1_prepare_j118 a0 a1 a2 a8 v66 bk30) (
        pbnd (xgI v66 22 4) fun v106 =>
        pite (w32 (lcmp' v106 a4) < 0) (
          x1_prepare_j118 a0 a1 a2 a8 v66 bk30) (
          x1_prepare_j146 a0 a1 a2 a3 a4 a6 a8 bk30))))
def x1_prepare_l30 (a0 : Option Nat) (a1 a2 a3 a4 a6 a8 : Int) : PT Hp Int :=
  ploop (fun (s : (Int × Int × Int × Int)) bk30 => x1_prepare_b30 a0 a1 a2 s.1 s.2.1 s.2.2.1 s.2.2.2 bk30) (a3, a4, a6, a8)
def x1_prepare (a0 : Option Nat) (a1 a2 : Int) : PT Hp Int :=
  pbnd (xrecv a0 1) fun _ =>
  pbnd (x1_isPerson a0 a1) fun v2 =>
  pite (w32 v2 = 0) (
    pret (-1)) (
    pbnd (x1_in a2 0 1) fun v11 =>
    pite (w32 v11 = 0) (
      pret (-1)) (
      x1_prepare_l30 a0 a1 a2 (-1) 0 0 0))
set_option maxHeartbeats 4000000 in
set_option maxRecDepth 100000 in
theorem mx1_prepare (l : Launch) (g : XG) (a0 : Option Nat) (a1 a2 : Int) : XMet l g yX1_prepare cX1_prepare 10 (Option.some Jvm.ClassFile.FieldType.int) (718) [rv g a0, .int (iI a1), .int (iI a2)] (x1_prepare a0 a1 a2) rvI := by
  refine gx_start (by decide +kernel) (by have e := lg_sl_len [rv g a0, .int (iI a1), .int (iI a2)]; simp only [List.map_cons, List.map_nil, List.sum_cons, List.sum_nil, rv_cat, cat_int, cat_long] at e; omega) (fun X Q σ0 hl C E hQ hR hr hnm => ?_)
  subst hl
  rw [show lv_args 0 [rv g a0, .int (iI a1), .int (iI a2)] = [(0, rv g a0), (1, .int (iI a1)), (2, .int (iI a2))] from by simp [lv_args, rv_cat, cat_int, cat_long]]
  show GJ X 10 (xWo g σ0 (cx_s X).heap) Q (x1_prepare a0 a1 a2) 0 [(0, rv g a0), (1, .int (iI a1)), (2, .int (iI a2))] []
  have J30 : ∀ (a0 : Option Nat) (a1 a2 a3 a4 a6 a8 : Int), GJ X 10 (xWo g σ0 (cx_s X).heap) Q (x1_prepare_l30 a0 a1 a2 a3 a4 a6 a8) 30 [(0, rv g a0), (1, .int (iI a1)), (2, .int (iI a2)), (3, .int (iI a3)), (4, .long (iL a4)), (6, .long (iL a6)), (8, .int (iI a8))] [] := by
    intro a0 a1 a2 a3 a4 a6 a8
    unfold x1_prepare_l30
    refine gj_loop (fun (s : (Int × Int × Int × Int)) => [(0, rv g a0), (1, .int (iI a1)), (2, .int (iI a2)), (3, .int (iI (s.1))), (4, .long (iL (s.2.1))), (6, .long (iL (s.2.2.1))), (8, .int (iI (s.2.2.2)))]) (a3, a4, a6, a8) (fun bk30 hb30 s => ?_)
    obtain ⟨a3, a4, a6, a8⟩ := s
    show GJ X 10 (xWo g σ0 (cx_s X).heap) Q (x1_prepare_b30 a0 a1 a2 a3 a4 a6 a8 bk30) 30 [(0, rv g a0), (1, .int (iI a1)), (2, .int (iI a2)), (3, .int (iI a3)), (4, .long (iL a4)), (6, .long (iL a6)), (8, .int (iI a8))] []
    have J146 : ∀ (a3 a4 a6 a8 : Int), GJ X 10 (xWo g σ0 (cx_s X).heap) Q (x1_prepare_j146 a0 a1 a2 a3 a4 a6 a8 bk30) 146 [(0, rv g a0), (1, .int (iI a1)), (2, .int (iI a2)), (3, .int (iI a3)), (4, .long (iL a4)), (6, .long (iL a6)), (8, .int (iI a8))] [] := by
      intro a3 a4 a6 a8
      unfold x1_prepare_j146
      refine gj_iinc (L' := [(8, _), (0, _), (1, _), (2, _), (3, _), (4, _), (6, _)]) C dX1_prepare_146 6 rfl (by decide) rfl ?_
      refine gj_goto (tgt := 30) C dX1_prepare_149 (by decide) ?_
      exact gj_to [1, 2, 3, 4, 5, 6, 0] (hb30 (a3, a4, a6, a8 + 25)) rfl
    have J118 : ∀ (a8 : Int) (a9 : Option Nat), GJ X 10 (xWo g σ0 (cx_s X).heap) Q (x1_prepare_j118 a0 a1 a2 a8 a9 bk30) 118 [(0, rv g a0), (1, .int (iI a1)), (2, .int (iI a2)), (8, .int (iI a8)), (9, rv g a9)] [] := by
      intro a8 a9
      unfold x1_prepare_j118
      refine gj_iload C dX1_prepare_118 3 rfl ?_
      refine gj_istore_n (L' := [(3, _), (0, _), (1, _), (2, _), (8, _), (9, _)]) C dX1_prepare_120 (by decide) rfl ?_
      refine gx_aload C dX1_prepare_121 5 rfl ?_
      refine gx_gL (O := "BorrowedLives$Harms") (nm := "harm") (ds := "J") (fin := false) C E dX1_prepare_123 (by decide +kernel) (Or.inr ⟨_, q1585⟩) (fun _ h => h) (fun v123 => ?_)
      refine gj_lstore (L' := [(4, _), (3, _), (0, _), (1, _), (2, _), (8, _), (9, _)]) C dX1_prepare_126 (by decide) rfl ?_
      refine gx_aload C dX1_prepare_128 6 rfl ?_
      refine gx_gL (O := "BorrowedLives$Harms") (nm := "harm") (ds := "J") (fin := false) C E dX1_prepare_130 (by decide +kernel) (Or.inr ⟨_, q1585⟩) (fun _ h => h) (fun v130 => ?_)
      refine gj_ldc2 (z := 1000) C dX1_prepare_133 q1598 (by decide) ?_
      refine gj_lmul C dX1_prepare_136 ?_
      refine gx_aload C dX1_prepare_137 6 rfl ?_
      refine gx_gI (O := "BorrowedLives$Looker") (nm := "lots") (ds := "I") (fin := false) C E dX1_prepare_139 (by decide +kernel) (Or.inl q1272) (fun x h => u_same (C.2.2.2.2.2 _ q1273) x h) (fun v139 => ?_)
      refine gj_i2l C dX1_prepare_142 ?_
      refine gj_nzl (fun hz143 => ?_)
      refine gj_ldiv C dX1_prepare_143 hz143 ?_
      refine gj_letl (fun x144 => ?_)
      refine gj_lstore (L' := [(6, _), (4, _), (3, _), (0, _), (1, _), (2, _), (8, _), (9, _)]) C dX1_prepare_144 (by decide) rfl ?_
      exact gj_to [3, 4, 5, 2, 1, 0, 6] (J146 a8 v123 x144 a8) rfl
    unfold x1_prepare_b30
    refine gj_iload C dX1_prepare_30 6 rfl ?_
    refine gx_aload_n C dX1_prepare_32 0 rfl ?_
    refine gx_gR (O := "BorrowedLives") (nm := "state") (ds := "LBorrowedLives$State;") (fin := true) C E dX1_prepare_33 (by decide +kernel) (Or.inl q380) (fun _ h => h) (fun v33 => ?_)
    refine gx_gR (O := "BorrowedLives$State") (nm := "purse") (ds := "[I") (fin := true) C E dX1_prepare_36 (by decide +kernel) (Or.inr ⟨_, q292⟩) (fun _ h => h) (fun v36 => ?_)
    refine gj_iload_n C dX1_prepare_39 1 rfl ?_
    refine gx_iald C E dX1_prepare_40 (fun v40 => ?_)
    refine gj_icmp_gt (tgt := 152) C dX1_prepare_41 (by decide) rfl rfl (fun h41 => gj_pos h41 ?_) (fun h41 => gj_neg h41 ?_)
    · refine gj_iload_n C dX1_prepare_152 2 rfl ?_
      refine gj_dia (J := 163) (L := [(0, rv g a0), (1, .int (iI a1)), (2, .int (iI a2)), (3, .int (iI a3)), (4, .long (iL a4)), (6, .long (iL a6)), (8, .int (iI a8))]) (st := []) (fun d163 => ?_) (fun t hJ => ?_)
      · skip
        refine gj_nrmI ?_
        exact gx_iret C hQ hr dX1_prepare_163
      · refine gj_if_ne (tgt := 160) C dX1_prepare_153 (by decide) (fun h153 => ?_) (fun h153 => ?_)
        · refine gj_lload C dX1_prepare_160 5 rfl ?_
          refine gj_l2i C dX1_prepare_162 ?_
          exact (by rw [if_neg h153] at hJ; exact hJ)
        · refine gj_iload_n C dX1_prepare_156 3 rfl ?_
          refine gj_goto (tgt := 163) C dX1_prepare_157 (by decide) ?_
          exact (by rw [if_pos h153] at hJ; exact hJ)
    · refine gx_aload_n C dX1_prepare_44 0 rfl ?_
      refine gx_gR (O := "BorrowedLives") (nm := "trial") (ds := "LBorrowedLives$State;") (fin := true) C E dX1_prepare_45 (by decide +kernel) (Or.inl q382) (fun _ h => h) (fun v45 => ?_)
      refine gx_aload_n C dX1_prepare_48 0 rfl ?_
      refine gx_gR (O := "BorrowedLives") (nm := "state") (ds := "LBorrowedLives$State;") (fin := true) C E dX1_prepare_49 (by decide +kernel) (Or.inl q380) (fun _ h => h) (fun v49 => ?_)
      refine gx_callVV (t0 := 4) (As := [rv g v49]) (rest := []) C E rfl dX1_prepare_52 (mx4_be (cx_l X) g v45 v49) (lw_V q1306 q1307 q1308 q131 q1309) hyx_X4_be rfl hR (Nat.le_of_ble_eq_true rfl) (by decide) rfl rfl (Nat.zero_le _) ?_
      refine gx_aload_n C dX1_prepare_55 0 rfl ?_
      refine gx_gR (O := "BorrowedLives") (nm := "trial") (ds := "LBorrowedLives$State;") (fin := true) C E dX1_prepare_56 (by decide +kernel) (Or.inl q382) (fun _ h => h) (fun v56 => ?_)
      refine gx_gR (O := "BorrowedLives$State") (nm := "hidden") (ds := "[I") (fin := true) C E dX1_prepare_59 (by decide +kernel) (Or.inr ⟨_, q299⟩) (fun _ h => h) (fun v59 => ?_)
      refine gj_iload_n C dX1_prepare_62 1 rfl ?_
      refine gj_iload C dX1_prepare_63 6 rfl ?_
      refine gj_nrmI ?_
      refine gx_iast C E dX1_prepare_65 ?_
      refine gx_new (t0 := 22) C E dX1_prepare_66 rfl q1576 q1577 q168 (fun v66 => ?_)
      refine gx_dup C dX1_prepare_69 ?_
      refine gx_aload_n C dX1_prepare_70 0 rfl ?_
      refine gj_iload_n C dX1_prepare_71 1 rfl ?_
      refine gx_aload_n C dX1_prepare_72 0 rfl ?_
      refine gx_gR (O := "BorrowedLives") (nm := "town") (ds := "LBorrowedLives$Town;") (fin := false) C E dX1_prepare_73 (by decide +kernel) (Or.inl q377) (fun _ h => h) (fun v73 => ?_)
      refine gx_callVI (t0 := 3) (As := []) (rest := [.int (iI a1), rv g a0, rv g v66, rv g v66]) C E rfl dX1_prepare_76 (mx3_sign (cx_l X) g v73) (lw_V q1317 q1318 q1319 q127 q1320) hyx_X3_sign rfl hR (Nat.le_of_ble_eq_true rfl) (by decide) rfl rfl (by simp only [List.map_cons, List.map_nil, List.sum_cons, List.sum_nil, rv_cat, cat_int, cat_long]; decide) (fun v76 => ?_)
      refine gx_callIV (As := [rv g a0, .int (iI a1), .int (iI v76)]) (rest := [rv g v66]) C E dX1_prepare_79 (mx26_init (cx_l X) g v66 a0 a1 v76) (lw_meth q1580) q168 q1578 q1579 rfl hyx_X26_init hR (Nat.le_of_ble_eq_true rfl) (by decide) rfl rfl (by simp only [List.map_cons, List.map_nil, List.sum_cons, List.sum_nil, rv_cat, cat_int, cat_long]; decide) ?_
      refine gx_astore (L' := [(9, _), (0, _), (1, _), (2, _), (3, _), (4, _), (6, _), (8, _)]) C dX1_prepare_82 (by decide) rfl ?_
      refine gx_aload_n C dX1_prepare_84 1 rfl ?_
      refine gx_aload C dX1_prepare_85 0 rfl ?_
      refine gx_callVV (t0 := 1) (As := [rv g v66]) (rest := []) C E rfl dX1_prepare_87 (mx1_shows (cx_l X) g a0 v66) (lw_V q1288 q1290 qs32 q125 q1291) hyx_X1_shows rfl hR (Nat.le_of_ble_eq_true rfl) (by decide) rfl rfl (Nat.zero_le _) ?_
      refine gx_aload C dX1_prepare_90 0 rfl ?_
      refine gx_gI (O := "BorrowedLives$Looker") (nm := "lots") (ds := "I") (fin := false) C E dX1_prepare_92 (by decide +kernel) (Or.inl q1272) (fun x h => u_same (C.2.2.2.2.2 _ q1273) x h) (fun v92 => ?_)
      refine gj_if_ne (tgt := 100) C dX1_prepare_95 (by decide) (fun h95 => gj_neg h95 ?_) (fun h95 => gj_pos h95 ?_)
      · refine gj_iload_n C dX1_prepare_100 4 rfl ?_
        refine gj_if_lt (tgt := 118) C dX1_prepare_101 (by decide) (fun h101 => gj_pos h101 ?_) (fun h101 => gj_neg h101 ?_)
        · exact gj_to [1, 2, 3, 7, 0] (J118 a8 v66) rfl
        · refine gx_aload C dX1_prepare_104 0 rfl ?_
          refine gx_gL (O := "BorrowedLives$Harms") (nm := "harm") (ds := "J") (fin := false) C E dX1_prepare_106 (by decide +kernel) (Or.inr ⟨_, q1585⟩) (fun _ h => h) (fun v106 => ?_)
          refine gj_lload C dX1_prepare_109 5 rfl ?_
          refine gj_lcmp C dX1_prepare_111 ?_
          refine gj_if_lt (tgt := 118) C dX1_prepare_112 (by decide) (fun h112 => gj_pos h112 ?_) (fun h112 => gj_neg h112 ?_)
          · exact gj_to [1, 2, 3, 7, 0] (J118 a8 v66) rfl
          · refine gj_goto (tgt := 146) C dX1_prepare_115 (by decide) ?_
            exact gj_to [1, 2, 3, 4, 5, 6, 7] (J146 a3 a4 a6 a8) rfl
      · refine gj_iconst C dX1_prepare_98 ?_
        exact gx_iret C hQ hr dX1_prepare_99
  unfold x1_prepare
  refine gx_aload_n C dX1_prepare_0 0 rfl ?_
  refine gj_iload_n C dX1_prepare_1 1 rfl ?_
  refine gx_callVI (t0 := 1) (As := [.int (iI a1)]) (rest := []) C E rfl dX1_prepare_2 (mx1_isPerson (cx_l X) g a0 a1) (lw_V q1188 q1190 qs28 q125 q1191) hyx_X1_isPerson rfl hR (Nat.le_of_ble_eq_true rfl) (by decide) rfl rfl (Nat.zero_le _) (fun v2 => ?_)
  refine gj_if_eq (tgt := 17) C dX1_prepare_5 (by decide) (fun h5 => gj_pos h5 ?_) (fun h5 => gj_neg h5 ?_)
  · refine gj_iconst C dX1_prepare_17 ?_
    exact gx_iret C hQ hr dX1_prepare_18
  · refine gj_iload_n C dX1_prepare_8 2 rfl ?_
    refine gj_iconst C dX1_prepare_9 ?_
    refine gj_iconst C dX1_prepare_10 ?_
    refine gx_callSI (As := [.int (iI a2), .int (iI 0), .int (iI 1)]) (rest := []) C E dX1_prepare_11 (mx1_in (cx_l X) g a2 0 1) (lw_S q1197 q1198 q125 q1199) hyx_X1_in hR (Nat.le_of_ble_eq_true rfl) (by decide) rfl rfl (Nat.zero_le _) (fun v11 => ?_)
    refine gj_if_ne (tgt := 19) C dX1_prepare_14 (by decide) (fun h14 => gj_neg h14 ?_) (fun h14 => gj_pos h14 ?_)
    · refine gj_iconst C dX1_prepare_19 ?_
      refine gj_istore_n (L' := [(3, _), (0, _), (1, _), (2, _)]) C dX1_prepare_20 (by decide) rfl ?_
      refine gj_lconst (z := 0) C dX1_prepare_21 rfl ?_
      refine gj_lstore (L' := [(4, _), (3, _), (0, _), (1, _), (2, _)]) C dX1_prepare_22 (by decide) rfl ?_
      refine gj_lconst (z := 0) C dX1_prepare_24 rfl ?_
      refine gj_lstore (L' := [(6, _), (4, _), (3, _), (0, _), (1, _), (2, _)]) C dX1_prepare_25 (by decide) rfl ?_
      refine gj_iconst C dX1_prepare_27 ?_
      refine gj_istore (L' := [(8, _), (6, _), (4, _), (3, _), (0, _), (1, _), (2, _)]) C dX1_prepare_28 (by decide) rfl ?_
      exact gj_to [4, 5, 6, 3, 2, 1, 0] (J30 a0 a1 a2 (-1) 0 0 0) rfl
    · refine gj_iconst C dX1_prepare_17 ?_
      exact gx_iret C hQ hr dX1_prepare_18
def x1_law (a0 : Option Nat) (a1 : Int) : PT Hp Int :=
  pbnd (x1_in a1 0 999) fun v5 =>
  pite (w32 v5 = 0) (
    pret (-1)) (
    pbnd (xgR a0 1 5) fun v14 =>
    pbnd (xgR a0 1 4) fun v18 =>
    pbnd (xrecv v14 4) fun _ =>
    pbnd (x4_be v14 v18) fun _ =>
    pbnd (xnew 22) fun v24 =>
    pbnd (xnn v24) fun _ =>
    pbnd (x26_init v24 a0 (-1) a1) fun _ =>
    pbnd (xrecv a0 1) fun _ =>
    pbnd (x1_shows a0 v24) fun _ =>
    pbnd (xgI v24 22 0) fun v41 =>
    pite (w32 v41 = 0) (
      pret (-1)) (
      pbnd (xgI v24 22 4) fun v52 =>
      pbnd (xgI v24 22 0) fun v60 =>
      pbnd (pnzl (zi2l v60)) fun _ =>
      pret (zl2i (ldiv' ((v52 * 1000)) (zi2l v60)))))
set_option maxHeartbeats 4000000 in
set_option maxRecDepth 100000 in
theorem mx1_law (l : Launch) (g : XG) (a0 : Option Nat) (a1 : Int) : XMet l g yX1_law cX1_law 3 (Option.some Jvm.ClassFile.FieldType.int) (718) [rv g a0, .int (iI a1)] (x1_law a0 a1) rvI := by
  refine gx_start (by decide +kernel) (by have e := lg_sl_len [rv g a0, .int (iI a1)]; simp only [List.map_cons, List.map_nil, List.sum_cons, List.sum_nil, rv_cat, cat_int, cat_long] at e; omega) (fun X Q σ0 hl C E hQ hR hr hnm => ?_)
  subst hl
  rw [show lv_args 0 [rv g a0, .int (iI a1)] = [(0, rv g a0), (1, .int (iI a1))] from by simp [lv_args, rv_cat, cat_int, cat_long]]
  show GJ X 3 (xWo g σ0 (cx_s X).heap) Q (x1_law a0 a1) 0 [(0, rv g a0), (1, .int (iI a1))] []
  unfold x1_law
  refine gj_iload_n C dX1_law_0 1 rfl ?_
  refine gj_iconst C dX1_law_1 ?_
  refine gj_sipush C dX1_law_2 rfl ?_
  refine gx_callSI (As := [.int (iI a1), .int (iI 0), .int (iI 999)]) (rest := []) C E dX1_law_5 (mx1_in (cx_l X) g a1 0 999) (lw_S q1197 q1198 q125 q1199) hyx_X1_in hR (Nat.le_of_ble_eq_true rfl) (by decide) rfl rfl (Nat.zero_le _) (fun v5 => ?_)
  refine gj_if_ne (tgt := 13) C dX1_law_8 (by decide) (fun h8 => gj_neg h8 ?_) (fun h8 => gj_pos h8 ?_)
  · refine gx_aload_n C dX1_law_13 0 rfl ?_
    refine gx_gR (O := "BorrowedLives") (nm := "trial") (ds := "LBorrowedLives$State;") (fin := true) C E dX1_law_14 (by decide +kernel) (Or.inl q382) (fun _ h => h) (fun v14 => ?_)
    refine gx_aload_n C dX1_law_17 0 rfl ?_
    refine gx_gR (O := "BorrowedLives") (nm := "state") (ds := "LBorrowedLives$State;") (fin := true) C E dX1_law_18 (by decide +kernel) (Or.inl q380) (fun _ h => h) (fun v18 => ?_)
    refine gx_callVV (t0 := 4) (As := [rv g v18]) (rest := []) C E rfl dX1_law_21 (mx4_be (cx_l X) g v14 v18) (lw_V q1306 q1307 q1308 q131 q1309) hyx_X4_be rfl hR (Nat.le_of_ble_eq_true rfl) (by decide) rfl rfl (Nat.zero_le _) ?_
    refine gx_new (t0 := 22) C E dX1_law_24 rfl q1576 q1577 q168 (fun v24 => ?_)
    refine gx_dup C dX1_law_27 ?_
    refine gx_aload_n C dX1_law_28 0 rfl ?_
    refine gj_iconst C dX1_law_29 ?_
    refine gj_iload_n C dX1_law_30 1 rfl ?_
    refine gx_callIV (As := [rv g a0, .int (iI (-1)), .int (iI a1)]) (rest := [rv g v24]) C E dX1_law_31 (mx26_init (cx_l X) g v24 a0 (-1) a1) (lw_meth q1580) q168 q1578 q1579 rfl hyx_X26_init hR (Nat.le_of_ble_eq_true rfl) (by decide) rfl rfl (by simp only [List.map_cons, List.map_nil, List.sum_cons, List.sum_nil, rv_cat, cat_int, cat_long]; decide) ?_
    refine gx_astore_n (L' := [(2, _), (0, _), (1, _)]) C dX1_law_34 (by decide) rfl ?_
    refine gx_aload_n C dX1_law_35 1 rfl ?_
    refine gx_aload_n C dX1_law_36 0 rfl ?_
    refine gx_callVV (t0 := 1) (As := [rv g v24]) (rest := []) C E rfl dX1_law_37 (mx1_shows (cx_l X) g a0 v24) (lw_V q1288 q1290 qs32 q125 q1291) hyx_X1_shows rfl hR (Nat.le_of_ble_eq_true rfl) (by decide) rfl rfl (Nat.zero_le _) ?_
    refine gx_aload_n C dX1_law_40 0 rfl ?_
    refine gx_gI (O := "BorrowedLives$Looker") (nm := "lots") (ds := "I") (fin := false) C E dX1_law_41 (by decide +kernel) (Or.inl q1272) (fun x h => u_same (C.2.2.2.2.2 _ q1273) x h) (fun v41 => ?_)
    refine gj_if_ne (tgt := 51) C dX1_law_44 (by decide) (fun h44 => gj_neg h44 ?_) (fun h44 => gj_pos h44 ?_)
    · refine gx_aload_n C dX1_law_51 0 rfl ?_
      refine gx_gL (O := "BorrowedLives$Harms") (nm := "harm") (ds := "J") (fin := false) C E dX1_law_52 (by decide +kernel) (Or.inr ⟨_, q1585⟩) (fun _ h => h) (fun v52 => ?_)
      refine gj_ldc2 (z := 1000) C dX1_law_55 q1598 (by decide) ?_
      refine gj_lmul C dX1_law_58 ?_
      refine gx_aload_n C dX1_law_59 0 rfl ?_
      refine gx_gI (O := "BorrowedLives$Looker") (nm := "lots") (ds := "I") (fin := false) C E dX1_law_60 (by decide +kernel) (Or.inl q1272) (fun x h => u_same (C.2.2.2.2.2 _ q1273) x h) (fun v60 => ?_)
      refine gj_i2l C dX1_law_63 ?_
      refine gj_nzl (fun hz64 => ?_)
      refine gj_ldiv C dX1_law_64 hz64 ?_
      refine gj_l2i C dX1_law_65 ?_
      exact gx_iret C hQ hr dX1_law_66
    · refine gj_iconst C dX1_law_47 ?_
      refine gj_goto (tgt := 66) C dX1_law_48 (by decide) ?_
      exact gx_iret C hQ hr dX1_law_66
  · refine gj_iconst C dX1_law_11 ?_
    exact gx_iret C hQ hr dX1_law_12
def x1_wishOf (a0 : Option Nat) (a1 a2 : Int) : PT Hp Int :=
  pbnd (xgR a0 1 4) fun v2 =>
  pbnd (xrecv a0 1) fun _ =>
  pbnd (x1_lays a0 v2 a2 a1 0) fun _ =>
  pbnd (xgR a0 1 2) fun v12 =>
  pbnd (xgR v12 3 6) fun v15 =>
  pite (v15 = none) (
    pbnd (xgR a0 1 7) fun v22 =>
    pbnd (xld v22 40 0) fun v26 =>
    pbnd (xgR a0 1 7) fun v28 =>
    pbnd (xld v28 40 1) fun v32 =>
    pbnd (xgR a0 1 7) fun v35 =>
    pbnd (xld v35 40 2) fun v39 =>
    pret (w32 (((v26 - v32)) + ((v39 * 5))))) (
    pbnd (xgR a0 1 2) fun v47 =>
    pbnd (xgR v47 3 6) fun v50 =>
    pbnd (xgR a0 1 7) fun v54 =>
    pbnd (xdisp v50 [(10, x12_worked v50 v54), (11, x13_worked v50 v54), (12, (xwk 700).1 v50 v54), (13, (xwk 700).2 v50 v54)]) fun v57 =>
    pret v57)
set_option maxHeartbeats 4000000 in
set_option maxRecDepth 100000 in
theorem mx1_wishOf (l : Launch) (g : XG) (a0 : Option Nat) (a1 a2 : Int) : XMet l g yX1_wishOf cX1_wishOf 3 (Option.some Jvm.ClassFile.FieldType.int) (702) [rv g a0, .int (iI a1), .int (iI a2)] (x1_wishOf a0 a1 a2) rvI := by
  refine gx_start (by decide +kernel) (by have e := lg_sl_len [rv g a0, .int (iI a1), .int (iI a2)]; simp only [List.map_cons, List.map_nil, List.sum_cons, List.sum_nil, rv_cat, cat_int, cat_long] at e; omega) (fun X Q σ0 hl C E hQ hR hr hnm => ?_)
  subst hl
  rw [show lv_args 0 [rv g a0, .int (iI a1), .int (iI a2)] = [(0, rv g a0), (1, .int (iI a1)), (2, .int (iI a2))] from by simp [lv_args, rv_cat, cat_int, cat_long]]
  show GJ X 3 (xWo g σ0 (cx_s X).heap) Q (x1_wishOf a0 a1 a2) 0 [(0, rv g a0), (1, .int (iI a1)), (2, .int (iI a2))] []
  unfold x1_wishOf
  refine gx_aload_n C dX1_wishOf_0 0 rfl ?_
  refine gx_aload_n C dX1_wishOf_1 0 rfl ?_
  refine gx_gR (O := "BorrowedLives") (nm := "state") (ds := "LBorrowedLives$State;") (fin := true) C E dX1_wishOf_2 (by decide +kernel) (Or.inl q380) (fun _ h => h) (fun v2 => ?_)
  refine gj_iload_n C dX1_wishOf_5 2 rfl ?_
  refine gj_iload_n C dX1_wishOf_6 1 rfl ?_
  refine gj_iconst C dX1_wishOf_7 ?_
  refine gx_callVV (t0 := 1) (As := [rv g v2, .int (iI a2), .int (iI a1), .int (iI 0)]) (rest := []) C E rfl dX1_wishOf_8 (mx1_lays (cx_l X) g a0 v2 a2 a1 0) (lw_V q1339 q1341 qs37 q125 q1342) hyx_X1_lays rfl hR (Nat.le_of_ble_eq_true rfl) (by decide) rfl rfl (Nat.zero_le _) ?_
  refine gx_aload_n C dX1_wishOf_11 0 rfl ?_
  refine gx_gR (O := "BorrowedLives") (nm := "town") (ds := "LBorrowedLives$Town;") (fin := false) C E dX1_wishOf_12 (by decide +kernel) (Or.inl q377) (fun _ h => h) (fun v12 => ?_)
  refine gx_gR (O := "BorrowedLives$Town") (nm := "wish") (ds := "LBorrowedLives$Expression;") (fin := false) C E dX1_wishOf_15 (by decide +kernel) (Or.inr ⟨_, q266⟩) (fun _ h => h) (fun v15 => ?_)
  refine gx_ifnonnull (tgt := 46) C dX1_wishOf_18 (by decide) (fun h18 => gj_neg h18 ?_) (fun h18 => gj_pos h18 ?_)
  · refine gx_aload_n C dX1_wishOf_46 0 rfl ?_
    refine gx_gR (O := "BorrowedLives") (nm := "town") (ds := "LBorrowedLives$Town;") (fin := false) C E dX1_wishOf_47 (by decide +kernel) (Or.inl q377) (fun _ h => h) (fun v47 => ?_)
    refine gx_gR (O := "BorrowedLives$Town") (nm := "wish") (ds := "LBorrowedLives$Expression;") (fin := false) C E dX1_wishOf_50 (by decide +kernel) (Or.inr ⟨_, q266⟩) (fun _ h => h) (fun v50 => ?_)
    refine gx_aload_n C dX1_wishOf_53 0 rfl ?_
    refine gx_gR (O := "BorrowedLives") (nm := "facts") (ds := "[I") (fin := true) C E dX1_wishOf_54 (by decide +kernel) (Or.inl q387) (fun _ h => h) (fun v54 => ?_)
    refine gx_shI (rest := []) (fun kk => ?_) (fun v57 => ?_)
    · refine gx_dcons (gx_callAI (x := ⟨"BorrowedLives$Expression", "worked", "([I)I"⟩) (owner := "BorrowedLives$Expression") (t0 := 10) (As := [rv g v54]) (rest := []) C E rfl dX1_wishOf_57 (mx12_worked (cx_l X) g v50 v54) q1344 q1346 q1350 q1351 q154 q1352 q1345 hy9_X11_worked hR (Nat.le_of_ble_eq_true rfl) (by decide) rfl rfl (Nat.zero_le _) kk) ?_
      refine gx_dcons (gx_callAI (x := ⟨"BorrowedLives$Expression", "worked", "([I)I"⟩) (owner := "BorrowedLives$Expression") (t0 := 11) (As := [rv g v54]) (rest := []) C E rfl dX1_wishOf_57 (mx13_worked (cx_l X) g v50 v54) q1344 q1346 q1347 q1348 q155 q1349 q1345 hy9_X11_worked hR (Nat.le_of_ble_eq_true rfl) (by decide) rfl rfl (Nat.zero_le _) kk) ?_
      refine gx_dcons (gx_callAI (x := ⟨"BorrowedLives$Expression", "worked", "([I)I"⟩) (owner := "BorrowedLives$Expression") (t0 := 12) (As := [rv g v54]) (rest := []) C E rfl dX1_wishOf_57 ((mxwk (cx_l X) g 700).1 v50 v54) q1344 q1346 q1353 q1354 q156 q1355 q1345 hy9_X11_worked hR (Nat.le_of_ble_eq_true rfl) (by decide) rfl rfl (Nat.zero_le _) kk) ?_
      refine gx_dcons (gx_callAI (x := ⟨"BorrowedLives$Expression", "worked", "([I)I"⟩) (owner := "BorrowedLives$Expression") (t0 := 13) (As := [rv g v54]) (rest := []) C E rfl dX1_wishOf_57 ((mxwk (cx_l X) g 700).2 v50 v54) q1344 q1346 q1360 q1357 q157 q1358 q1345 hy9_X11_worked hR (Nat.le_of_ble_eq_true rfl) (by decide) rfl rfl (Nat.zero_le _) kk) ?_
      exact gx_dnil
    exact gx_iret C hQ hr dX1_wishOf_60
  · refine gx_aload_n C dX1_wishOf_21 0 rfl ?_
    refine gx_gR (O := "BorrowedLives") (nm := "facts") (ds := "[I") (fin := true) C E dX1_wishOf_22 (by decide +kernel) (Or.inl q387) (fun _ h => h) (fun v22 => ?_)
    refine gj_iconst C dX1_wishOf_25 ?_
    refine gx_iald C E dX1_wishOf_26 (fun v26 => ?_)
    refine gx_aload_n C dX1_wishOf_27 0 rfl ?_
    refine gx_gR (O := "BorrowedLives") (nm := "facts") (ds := "[I") (fin := true) C E dX1_wishOf_28 (by decide +kernel) (Or.inl q387) (fun _ h => h) (fun v28 => ?_)
    refine gj_iconst C dX1_wishOf_31 ?_
    refine gx_iald C E dX1_wishOf_32 (fun v32 => ?_)
    refine gj_isub C dX1_wishOf_33 ?_
    refine gx_aload_n C dX1_wishOf_34 0 rfl ?_
    refine gx_gR (O := "BorrowedLives") (nm := "facts") (ds := "[I") (fin := true) C E dX1_wishOf_35 (by decide +kernel) (Or.inl q387) (fun _ h => h) (fun v35 => ?_)
    refine gj_iconst C dX1_wishOf_38 ?_
    refine gx_iald C E dX1_wishOf_39 (fun v39 => ?_)
    refine gj_iconst C dX1_wishOf_40 ?_
    refine gj_imul C dX1_wishOf_41 ?_
    refine gj_iadd C dX1_wishOf_42 ?_
    refine gj_goto (tgt := 60) C dX1_wishOf_43 (by decide) ?_
    refine gj_nrmI ?_
    exact gx_iret C hQ hr dX1_wishOf_60
