/-! THE COMPONENT: its methods as pure programs, and that the machine runs so (X1.spends, X1.mends, X1.passes, X22.lives, X4.harmOfAll, X25.sees, X26.sees, X1.fits, X27.sees, X28.sees, X1.gives, X1.shows, X1.lots, X1.odds, X1.keeps): printed by genx.py -/
def x1_spends_j139 (a0 a1 : Option Nat) (a2 a6 s0 : Int) : PT Hp Unit :=
  pbnd (xrecv a0 1) fun _ =>
  pbnd (x1_poorest a0 a1 a2) fun v144 =>
  pbnd (xgR a1 4 1) fun v150 =>
  pbnd (xld v150 40 a2) fun v155 =>
  pbnd (xst v150 40 a2 (w32 (v155 - s0))) fun _ =>
  pite (w32 v144 < 0) (
    pret ()) (
    pbnd (xrecv a1 4) fun _ =>
    pbnd (x4_gets a1 v144 (a6 - s0)) fun _ =>
    pret ())
def x1_spends_j63 (a0 a1 : Option Nat) (a2 a3 a4 : Int) (a5 : Option Nat) (s0 : Int) : PT Hp Unit :=
  pbnd (xgR a0 1 7) fun v72 =>
  pbnd (xld v72 40 0) fun v76 =>
  pbnd (x1_between s0 0 (zmin a3 v76)) fun v80 =>
  pbnd (xdisp a5 [(6, x7_spends a5 v80), (7, x8_spends a5 v80), (8, x7_spends a5 v80), (9, x7_spends a5 v80)]) fun v83 =>
  pbnd (xgR a1 4 0) fun v89 =>
  pbnd (xld v89 40 a2) fun v94 =>
  pbnd (xst v89 40 a2 (w32 (v94 - v83))) fun _ =>
  pbnd (xdisp a5 [(6, x7_findsHidden a5), (7, x7_findsHidden a5), (8, x9_findsHidden a5), (9, x7_findsHidden a5)]) fun v101 =>
  pite (w32 v101 = 0) (
    pbnd (xdisp a5 [(6, x7_paysDebts a5), (7, x7_paysDebts a5), (8, x7_paysDebts a5), (9, x10_paysDebts a5)]) fun v118 =>
    pite (w32 v118 = 0) (
      x1_spends_j139 a0 a1 a2 v83 0) (
      pbnd (xgR a1 4 1) fun v127 =>
      pbnd (xld v127 40 a2) fun v131 =>
      x1_spends_j139 a0 a1 a2 v83 (zmin v83 v131))) (
    pbnd (xrecv a1 4) fun _ =>
    pbnd (x4_gets a1 a4 v83) fun _ =>
    pret ())
def x1_spends (a0 a1 : Option Nat) (a2 a3 : Int) : PT Hp Unit :=
  pbnd (xgR a1 4 6) fun v1 =>
  pbnd (xld v1 40 a2) fun v5 =>
  pbnd (xrecv a0 1) fun _ =>
  pbnd (x1_person_2 a0 v5) fun v11 =>
  pbnd (xdisp v11 [(6, x7_findsHidden v11), (7, x7_findsHidden v11), (8, x9_findsHidden v11), (9, x7_findsHidden v11)]) fun v23 =>
  pbnd (xrecv a0 1) fun _ =>
  pbnd (x1_lays a0 a1 a2 v5 v23) fun _ =>
  pbnd (xgR a0 1 2) fun v30 =>
  pbnd (xgR v30 3 3) fun v33 =>
  pite (v33 = none) (
    pbnd (xgIs v11 [6, 7, 8, 9] 1) fun v41 =>
    x1_spends_j63 a0 a1 a2 a3 v5 v11 (v41 * 2)) (
    pbnd (xgR a0 1 2) fun v50 =>
    pbnd (xgR v50 3 3) fun v53 =>
    pbnd (xgR a0 1 7) fun v57 =>
    pbnd (xdisp v53 [(10, x12_worked v53 v57), (11, x13_worked v53 v57), (12, (xwk 700).1 v53 v57), (13, (xwk 700).2 v53 v57)]) fun v60 =>
    x1_spends_j63 a0 a1 a2 a3 v5 v11 v60)
set_option maxHeartbeats 4000000 in
set_option maxRecDepth 100000 in
theorem mx1_spends (l : Launch) (g : XG) (a0 a1 : Option Nat) (a2 a3 : Int) : XMet l g yX1_spends cX1_spends 9 (Option.none : Option Jvm.ClassFile.FieldType) (702) [rv g a0, rv g a1, .int (iI a2), .int (iI a3)] (x1_spends a0 a1 a2 a3) rvV := by
  refine gx_start (by decide +kernel) (by have e := lg_sl_len [rv g a0, rv g a1, .int (iI a2), .int (iI a3)]; simp only [List.map_cons, List.map_nil, List.sum_cons, List.sum_nil, rv_cat, cat_int, cat_long] at e; omega) (fun X Q σ0 hl C E hQ hR hr hnm => ?_)
  subst hl
  rw [show lv_args 0 [rv g a0, rv g a1, .int (iI a2), .int (iI a3)] = [(0, rv g a0), (1, rv g a1), (2, .int (iI a2)), (3, .int (iI a3))] from by simp [lv_args, rv_cat, cat_int, cat_long]]
  show GJ X 9 (xWo g σ0 (cx_s X).heap) Q (x1_spends a0 a1 a2 a3) 0 [(0, rv g a0), (1, rv g a1), (2, .int (iI a2)), (3, .int (iI a3))] []
  have J139 : ∀ (a0 a1 : Option Nat) (a2 a6 s0 : Int), GJ X 9 (xWo g σ0 (cx_s X).heap) Q (x1_spends_j139 a0 a1 a2 a6 s0) 139 [(0, rv g a0), (1, rv g a1), (2, .int (iI a2)), (6, .int (iI a6))] [.int (iI s0)] := by
    intro a0 a1 a2 a6 s0
    unfold x1_spends_j139
    refine gj_istore (L' := [(7, _), (0, _), (1, _), (2, _), (6, _)]) C dX1_spends_139 (by decide) rfl ?_
    refine gx_aload_n C dX1_spends_141 1 rfl ?_
    refine gx_aload_n C dX1_spends_142 2 rfl ?_
    refine gj_iload_n C dX1_spends_143 3 rfl ?_
    refine gx_callVI (t0 := 1) (As := [rv g a1, .int (iI a2)]) (rest := []) C E rfl dX1_spends_144 (mx1_poorest (cx_l X) g a0 a1 a2) (lw_V q1390 q1392 qs38 q125 q1393) hyx_X1_poorest rfl hR (Nat.le_of_ble_eq_true rfl) (by decide) rfl rfl (Nat.zero_le _) (fun v144 => ?_)
    refine gj_istore (L' := [(8, _), (7, _), (0, _), (1, _), (2, _), (6, _)]) C dX1_spends_147 (by decide) rfl ?_
    refine gx_aload_n C dX1_spends_149 3 rfl ?_
    refine gx_gR (O := "BorrowedLives$State") (nm := "debt") (ds := "[I") (fin := true) C E dX1_spends_150 (by decide +kernel) (Or.inr ⟨_, q294⟩) (fun _ h => h) (fun v150 => ?_)
    refine gj_iload_n C dX1_spends_153 4 rfl ?_
    refine gj_dup2 C dX1_spends_154 rfl (rv_cat _ _) ?_
    refine gx_iald C E dX1_spends_155 (fun v155 => ?_)
    refine gj_iload C dX1_spends_156 1 rfl ?_
    refine gj_isub C dX1_spends_158 ?_
    refine gj_nrmI ?_
    refine gx_iast C E dX1_spends_159 ?_
    refine gj_iload C dX1_spends_160 0 rfl ?_
    refine gj_if_lt (tgt := 176) C dX1_spends_162 (by decide) (fun h162 => gj_pos h162 ?_) (fun h162 => gj_neg h162 ?_)
    · exact gx_vret C hQ hr dX1_spends_176
    · refine gx_aload_n C dX1_spends_165 3 rfl ?_
      refine gj_iload C dX1_spends_166 0 rfl ?_
      refine gj_iload C dX1_spends_168 5 rfl ?_
      refine gj_iload C dX1_spends_170 1 rfl ?_
      refine gj_isub C dX1_spends_172 ?_
      refine gx_callVV (t0 := 4) (As := [.int (iI v144), .int (iI ((a6 - s0)))]) (rest := []) C E rfl dX1_spends_173 (mx4_gets (cx_l X) g a1 v144 (a6 - s0)) (lw_V q1375 q1376 q1377 q131 q1378) hyx_X4_gets rfl hR (Nat.le_of_ble_eq_true rfl) (by decide) rfl rfl (Nat.zero_le _) ?_
      exact gx_vret C hQ hr dX1_spends_176
  have J63 : ∀ (a0 a1 : Option Nat) (a2 a3 a4 : Int) (a5 : Option Nat) (s0 : Int), GJ X 9 (xWo g σ0 (cx_s X).heap) Q (x1_spends_j63 a0 a1 a2 a3 a4 a5 s0) 63 [(0, rv g a0), (1, rv g a1), (2, .int (iI a2)), (3, .int (iI a3)), (4, .int (iI a4)), (5, rv g a5)] [.int (iI s0)] := by
    intro a0 a1 a2 a3 a4 a5 s0
    unfold x1_spends_j63
    refine gj_istore (L' := [(6, .int (iI s0)), (0, rv g a0), (1, rv g a1), (2, .int (iI a2)), (3, .int (iI a3)), (4, .int (iI a4)), (5, rv g a5)]) C dX1_spends_63 (by decide) (by simp [List.filter, rv_cat, cat_int, cat_long, fin4_3]) ?_
    refine gx_aload C dX1_spends_65 6 rfl ?_
    refine gj_iload C dX1_spends_67 0 rfl ?_
    refine gj_iconst C dX1_spends_69 ?_
    refine gj_iload_n C dX1_spends_70 4 rfl ?_
    refine gx_aload_n C dX1_spends_71 1 rfl ?_
    refine gx_gR (O := "BorrowedLives") (nm := "facts") (ds := "[I") (fin := true) C E dX1_spends_72 (by decide +kernel) (Or.inl q387) (fun _ h => h) (fun v72 => ?_)
    refine gj_iconst C dX1_spends_75 ?_
    refine gx_iald C E dX1_spends_76 (fun v76 => ?_)
    refine gx_min C E dX1_spends_77 q1361 q517 q137 q518 hR (Nat.le_of_ble_eq_true rfl) (by simp only [List.map_cons, List.map_nil, List.sum_cons, List.sum_nil, rv_cat, cat_int, cat_long]; decide) ?_
    refine gx_callSI (As := [.int (iI s0), .int (iI 0), .int (iI (zmin a3 v76))]) (rest := [rv g a5]) C E dX1_spends_80 (mx1_between (cx_l X) g s0 0 (zmin a3 v76)) (lw_S q1362 q1363 q125 q1364) hyx_X1_between hR (Nat.le_of_ble_eq_true rfl) (by decide) rfl rfl (by simp only [List.map_cons, List.map_nil, List.sum_cons, List.sum_nil, rv_cat, cat_int, cat_long]; decide) (fun v80 => ?_)
    refine gx_shI (rest := []) (fun kk => ?_) (fun v83 => ?_)
    · refine gx_dcons (gx_callOI (x := ⟨"BorrowedLives$Person", "spends", "(I)I"⟩) (owner := "BorrowedLives$Person") (t0 := 6) (As := [.int (iI v80)]) (rest := []) C E rfl dX1_spends_83 (mx7_spends (cx_l X) g a5 v80) q1365 q1368 q1366 q1367 q1366 q149 q1374 q1374 hy9_X7_spends hR (Nat.le_of_ble_eq_true rfl) (by decide) rfl rfl (Nat.zero_le _) kk) ?_
      refine gx_dcons (gx_callOI (x := ⟨"BorrowedLives$Person", "spends", "(I)I"⟩) (owner := "BorrowedLives$Person") (t0 := 7) (As := [.int (iI v80)]) (rest := []) C E rfl dX1_spends_83 (mx8_spends (cx_l X) g a5 v80) q1365 q1368 q1366 q1370 q1371 q150 q1372 q1374 hy9_X7_spends hR (Nat.le_of_ble_eq_true rfl) (by decide) rfl rfl (Nat.zero_le _) kk) ?_
      refine gx_dcons (gx_callOI (x := ⟨"BorrowedLives$Person", "spends", "(I)I"⟩) (owner := "BorrowedLives$Person") (t0 := 8) (As := [.int (iI v80)]) (rest := []) C E rfl dX1_spends_83 (mx7_spends (cx_l X) g a5 v80) q1365 q1368 q1366 q1373 q1366 q149 q1374 q1374 hy9_X7_spends hR (Nat.le_of_ble_eq_true rfl) (by decide) rfl rfl (Nat.zero_le _) kk) ?_
      refine gx_dcons (gx_callOI (x := ⟨"BorrowedLives$Person", "spends", "(I)I"⟩) (owner := "BorrowedLives$Person") (t0 := 9) (As := [.int (iI v80)]) (rest := []) C E rfl dX1_spends_83 (mx7_spends (cx_l X) g a5 v80) q1365 q1368 q1366 q1369 q1366 q149 q1374 q1374 hy9_X7_spends hR (Nat.le_of_ble_eq_true rfl) (by decide) rfl rfl (Nat.zero_le _) kk) ?_
      exact gx_dnil
    refine gj_istore (L' := [(6, .int (iI v83)), (0, rv g a0), (1, rv g a1), (2, .int (iI a2)), (3, .int (iI a3)), (4, .int (iI a4)), (5, rv g a5)]) C dX1_spends_86 (by decide) (by simp [List.filter, rv_cat, cat_int, cat_long, fin4_3]) ?_
    refine gx_aload_n C dX1_spends_88 2 rfl ?_
    refine gx_gR (O := "BorrowedLives$State") (nm := "purse") (ds := "[I") (fin := true) C E dX1_spends_89 (by decide +kernel) (Or.inr ⟨_, q292⟩) (fun _ h => h) (fun v89 => ?_)
    refine gj_iload_n C dX1_spends_92 3 rfl ?_
    refine gj_dup2 C dX1_spends_93 rfl (rv_cat _ _) ?_
    refine gx_iald C E dX1_spends_94 (fun v94 => ?_)
    refine gj_iload C dX1_spends_95 0 rfl ?_
    refine gj_isub C dX1_spends_97 ?_
    refine gj_nrmI ?_
    refine gx_iast C E dX1_spends_98 ?_
    refine gx_aload C dX1_spends_99 6 rfl ?_
    refine gx_shI (rest := []) (fun kk => ?_) (fun v101 => ?_)
    · refine gx_dcons (gx_callOI (x := ⟨"BorrowedLives$Person", "findsHidden", "()Z"⟩) (owner := "BorrowedLives$Person") (t0 := 6) (As := []) (rest := []) C E rfl dX1_spends_101 (mx7_findsHidden (cx_l X) g a5) q1329 q1332 q1330 q1331 q1330 q149 q1338 q1338 hy9_X7_findsHidden hR (Nat.le_of_ble_eq_true rfl) (by decide) rfl rfl (Nat.zero_le _) kk) ?_
      refine gx_dcons (gx_callOI (x := ⟨"BorrowedLives$Person", "findsHidden", "()Z"⟩) (owner := "BorrowedLives$Person") (t0 := 7) (As := []) (rest := []) C E rfl dX1_spends_101 (mx7_findsHidden (cx_l X) g a5) q1329 q1332 q1330 q1334 q1330 q149 q1338 q1338 hy9_X7_findsHidden hR (Nat.le_of_ble_eq_true rfl) (by decide) rfl rfl (Nat.zero_le _) kk) ?_
      refine gx_dcons (gx_callOI (x := ⟨"BorrowedLives$Person", "findsHidden", "()Z"⟩) (owner := "BorrowedLives$Person") (t0 := 8) (As := []) (rest := []) C E rfl dX1_spends_101 (mx9_findsHidden (cx_l X) g a5) q1329 q1332 q1330 q1335 q1336 q151 q1337 q1338 hy9_X7_findsHidden hR (Nat.le_of_ble_eq_true rfl) (by decide) rfl rfl (Nat.zero_le _) kk) ?_
      refine gx_dcons (gx_callOI (x := ⟨"BorrowedLives$Person", "findsHidden", "()Z"⟩) (owner := "BorrowedLives$Person") (t0 := 9) (As := []) (rest := []) C E rfl dX1_spends_101 (mx7_findsHidden (cx_l X) g a5) q1329 q1332 q1330 q1333 q1330 q149 q1338 q1338 hy9_X7_findsHidden hR (Nat.le_of_ble_eq_true rfl) (by decide) rfl rfl (Nat.zero_le _) kk) ?_
      exact gx_dnil
    refine gj_if_eq (tgt := 116) C dX1_spends_104 (by decide) (fun h104 => gj_pos h104 ?_) (fun h104 => gj_neg h104 ?_)
    · refine gx_aload C dX1_spends_116 6 rfl ?_
      refine gx_shI (rest := []) (fun kk => ?_) (fun v118 => ?_)
      · refine gx_dcons (gx_callOI (x := ⟨"BorrowedLives$Person", "paysDebts", "()Z"⟩) (owner := "BorrowedLives$Person") (t0 := 6) (As := []) (rest := []) C E rfl dX1_spends_118 (mx7_paysDebts (cx_l X) g a5) q1380 q1383 q1381 q1382 q1381 q149 q1389 q1389 hy9_X7_paysDebts hR (Nat.le_of_ble_eq_true rfl) (by decide) rfl rfl (Nat.zero_le _) kk) ?_
        refine gx_dcons (gx_callOI (x := ⟨"BorrowedLives$Person", "paysDebts", "()Z"⟩) (owner := "BorrowedLives$Person") (t0 := 7) (As := []) (rest := []) C E rfl dX1_spends_118 (mx7_paysDebts (cx_l X) g a5) q1380 q1383 q1381 q1387 q1381 q149 q1389 q1389 hy9_X7_paysDebts hR (Nat.le_of_ble_eq_true rfl) (by decide) rfl rfl (Nat.zero_le _) kk) ?_
        refine gx_dcons (gx_callOI (x := ⟨"BorrowedLives$Person", "paysDebts", "()Z"⟩) (owner := "BorrowedLives$Person") (t0 := 8) (As := []) (rest := []) C E rfl dX1_spends_118 (mx7_paysDebts (cx_l X) g a5) q1380 q1383 q1381 q1388 q1381 q149 q1389 q1389 hy9_X7_paysDebts hR (Nat.le_of_ble_eq_true rfl) (by decide) rfl rfl (Nat.zero_le _) kk) ?_
        refine gx_dcons (gx_callOI (x := ⟨"BorrowedLives$Person", "paysDebts", "()Z"⟩) (owner := "BorrowedLives$Person") (t0 := 9) (As := []) (rest := []) C E rfl dX1_spends_118 (mx10_paysDebts (cx_l X) g a5) q1380 q1383 q1381 q1384 q1385 q152 q1386 q1389 hy9_X7_paysDebts hR (Nat.le_of_ble_eq_true rfl) (by decide) rfl rfl (Nat.zero_le _) kk) ?_
        exact gx_dnil
      refine gj_if_eq (tgt := 138) C dX1_spends_121 (by decide) (fun h121 => gj_pos h121 ?_) (fun h121 => gj_neg h121 ?_)
      · refine gj_iconst C dX1_spends_138 ?_
        exact gj_to [1, 2, 3, 0] (J139 a0 a1 a2 v83 0) rfl
      · refine gj_iload C dX1_spends_124 0 rfl ?_
        refine gx_aload_n C dX1_spends_126 2 rfl ?_
        refine gx_gR (O := "BorrowedLives$State") (nm := "debt") (ds := "[I") (fin := true) C E dX1_spends_127 (by decide +kernel) (Or.inr ⟨_, q294⟩) (fun _ h => h) (fun v127 => ?_)
        refine gj_iload_n C dX1_spends_130 3 rfl ?_
        refine gx_iald C E dX1_spends_131 (fun v131 => ?_)
        refine gx_min C E dX1_spends_132 q1361 q517 q137 q518 hR (Nat.le_of_ble_eq_true rfl) (Nat.zero_le _) ?_
        refine gj_goto (tgt := 139) C dX1_spends_135 (by decide) ?_
        exact gj_to [1, 2, 3, 0] (J139 a0 a1 a2 v83 (zmin v83 v131)) rfl
    · refine gx_aload_n C dX1_spends_107 2 rfl ?_
      refine gj_iload C dX1_spends_108 5 rfl ?_
      refine gj_iload C dX1_spends_110 0 rfl ?_
      refine gx_callVV (t0 := 4) (As := [.int (iI a4), .int (iI v83)]) (rest := []) C E rfl dX1_spends_112 (mx4_gets (cx_l X) g a1 a4 v83) (lw_V q1375 q1376 q1377 q131 q1378) hyx_X4_gets rfl hR (Nat.le_of_ble_eq_true rfl) (by decide) rfl rfl (Nat.zero_le _) ?_
      exact gx_vret C hQ hr dX1_spends_115
  unfold x1_spends
  refine gx_aload_n C dX1_spends_0 1 rfl ?_
  refine gx_gR (O := "BorrowedLives$State") (nm := "self") (ds := "[I") (fin := true) C E dX1_spends_1 (by decide +kernel) (Or.inr ⟨_, q303⟩) (fun _ h => h) (fun v1 => ?_)
  refine gj_iload_n C dX1_spends_4 2 rfl ?_
  refine gx_iald C E dX1_spends_5 (fun v5 => ?_)
  refine gj_istore (L' := [(4, _), (0, _), (1, _), (2, _), (3, _)]) C dX1_spends_6 (by decide) rfl ?_
  refine gx_aload_n C dX1_spends_8 1 rfl ?_
  refine gj_iload C dX1_spends_9 0 rfl ?_
  refine gx_callVR (t0 := 1) (As := [.int (iI v5)]) (rest := []) C E rfl dX1_spends_11 (mx1_person_2 (cx_l X) g a0 v5) (lw_V q1200 q1202 qs30 q125 q1203) hyx_X1_person_2 rfl hR (Nat.le_of_ble_eq_true rfl) (by decide) rfl rfl (Nat.zero_le _) (fun v11 => ?_)
  refine gx_astore (L' := [(5, _), (4, _), (0, _), (1, _), (2, _), (3, _)]) C dX1_spends_14 (by decide) rfl ?_
  refine gx_aload_n C dX1_spends_16 2 rfl ?_
  refine gx_aload_n C dX1_spends_17 3 rfl ?_
  refine gj_iload_n C dX1_spends_18 4 rfl ?_
  refine gj_iload C dX1_spends_19 1 rfl ?_
  refine gx_aload C dX1_spends_21 0 rfl ?_
  refine gx_shI (rest := [.int (iI v5), .int (iI a2), rv g a1, rv g a0]) (fun kk => ?_) (fun v23 => ?_)
  · refine gx_dcons (gx_callOI (x := ⟨"BorrowedLives$Person", "findsHidden", "()Z"⟩) (owner := "BorrowedLives$Person") (t0 := 6) (As := []) (rest := [.int (iI v5), .int (iI a2), rv g a1, rv g a0]) C E rfl dX1_spends_23 (mx7_findsHidden (cx_l X) g v11) q1329 q1332 q1330 q1331 q1330 q149 q1338 q1338 hy9_X7_findsHidden hR (Nat.le_of_ble_eq_true rfl) (by decide) rfl rfl (by simp only [List.map_cons, List.map_nil, List.sum_cons, List.sum_nil, rv_cat, cat_int, cat_long]; decide) kk) ?_
    refine gx_dcons (gx_callOI (x := ⟨"BorrowedLives$Person", "findsHidden", "()Z"⟩) (owner := "BorrowedLives$Person") (t0 := 7) (As := []) (rest := [.int (iI v5), .int (iI a2), rv g a1, rv g a0]) C E rfl dX1_spends_23 (mx7_findsHidden (cx_l X) g v11) q1329 q1332 q1330 q1334 q1330 q149 q1338 q1338 hy9_X7_findsHidden hR (Nat.le_of_ble_eq_true rfl) (by decide) rfl rfl (by simp only [List.map_cons, List.map_nil, List.sum_cons, List.sum_nil, rv_cat, cat_int, cat_long]; decide) kk) ?_
    refine gx_dcons (gx_callOI (x := ⟨"BorrowedLives$Person", "findsHidden", "()Z"⟩) (owner := "BorrowedLives$Person") (t0 := 8) (As := []) (rest := [.int (iI v5), .int (iI a2), rv g a1, rv g a0]) C E rfl dX1_spends_23 (mx9_findsHidden (cx_l X) g v11) q1329 q1332 q1330 q1335 q1336 q151 q1337 q1338 hy9_X7_findsHidden hR (Nat.le_of_ble_eq_true rfl) (by decide) rfl rfl (by simp only [List.map_cons, List.map_nil, List.sum_cons, List.sum_nil, rv_cat, cat_int, cat_long]; decide) kk) ?_
    refine gx_dcons (gx_callOI (x := ⟨"BorrowedLives$Person", "findsHidden", "()Z"⟩) (owner := "BorrowedLives$Person") (t0 := 9) (As := []) (rest := [.int (iI v5), .int (iI a2), rv g a1, rv g a0]) C E rfl dX1_spends_23 (mx7_findsHidden (cx_l X) g v11) q1329 q1332 q1330 q1333 q1330 q149 q1338 q1338 hy9_X7_findsHidden hR (Nat.le_of_ble_eq_true rfl) (by decide) rfl rfl (by simp only [List.map_cons, List.map_nil, List.sum_cons, List.sum_nil, rv_cat, cat_int, cat_long]; decide) kk) ?_
    exact gx_dnil
  refine gx_callVV (t0 := 1) (As := [rv g a1, .int (iI a2), .int (iI v5), .int (iI v23)]) (rest := []) C E rfl dX1_spends_26 (mx1_lays (cx_l X) g a0 a1 a2 v5 v23) (lw_V q1339 q1341 qs37 q125 q1342) hyx_X1_lays rfl hR (Nat.le_of_ble_eq_true rfl) (by decide) rfl rfl (Nat.zero_le _) ?_
  refine gx_aload_n C dX1_spends_29 2 rfl ?_
  refine gx_gR (O := "BorrowedLives") (nm := "town") (ds := "LBorrowedLives$Town;") (fin := false) C E dX1_spends_30 (by decide +kernel) (Or.inl q377) (fun _ h => h) (fun v30 => ?_)
  refine gx_gR (O := "BorrowedLives$Town") (nm := "spends") (ds := "LBorrowedLives$Expression;") (fin := false) C E dX1_spends_33 (by decide +kernel) (Or.inr ⟨_, q260⟩) (fun _ h => h) (fun v33 => ?_)
  refine gx_ifnonnull (tgt := 49) C dX1_spends_36 (by decide) (fun h36 => gj_neg h36 ?_) (fun h36 => gj_pos h36 ?_)
  · refine gx_aload_n C dX1_spends_49 2 rfl ?_
    refine gx_gR (O := "BorrowedLives") (nm := "town") (ds := "LBorrowedLives$Town;") (fin := false) C E dX1_spends_50 (by decide +kernel) (Or.inl q377) (fun _ h => h) (fun v50 => ?_)
    refine gx_gR (O := "BorrowedLives$Town") (nm := "spends") (ds := "LBorrowedLives$Expression;") (fin := false) C E dX1_spends_53 (by decide +kernel) (Or.inr ⟨_, q260⟩) (fun _ h => h) (fun v53 => ?_)
    refine gx_aload_n C dX1_spends_56 2 rfl ?_
    refine gx_gR (O := "BorrowedLives") (nm := "facts") (ds := "[I") (fin := true) C E dX1_spends_57 (by decide +kernel) (Or.inl q387) (fun _ h => h) (fun v57 => ?_)
    refine gx_shI (rest := []) (fun kk => ?_) (fun v60 => ?_)
    · refine gx_dcons (gx_callAI (x := ⟨"BorrowedLives$Expression", "worked", "([I)I"⟩) (owner := "BorrowedLives$Expression") (t0 := 10) (As := [rv g v57]) (rest := []) C E rfl dX1_spends_60 (mx12_worked (cx_l X) g v53 v57) q1344 q1346 q1350 q1351 q154 q1352 q1345 hy9_X11_worked hR (Nat.le_of_ble_eq_true rfl) (by decide) rfl rfl (Nat.zero_le _) kk) ?_
      refine gx_dcons (gx_callAI (x := ⟨"BorrowedLives$Expression", "worked", "([I)I"⟩) (owner := "BorrowedLives$Expression") (t0 := 11) (As := [rv g v57]) (rest := []) C E rfl dX1_spends_60 (mx13_worked (cx_l X) g v53 v57) q1344 q1346 q1347 q1348 q155 q1349 q1345 hy9_X11_worked hR (Nat.le_of_ble_eq_true rfl) (by decide) rfl rfl (Nat.zero_le _) kk) ?_
      refine gx_dcons (gx_callAI (x := ⟨"BorrowedLives$Expression", "worked", "([I)I"⟩) (owner := "BorrowedLives$Expression") (t0 := 12) (As := [rv g v57]) (rest := []) C E rfl dX1_spends_60 ((mxwk (cx_l X) g 700).1 v53 v57) q1344 q1346 q1353 q1354 q156 q1355 q1345 hy9_X11_worked hR (Nat.le_of_ble_eq_true rfl) (by decide) rfl rfl (Nat.zero_le _) kk) ?_
      refine gx_dcons (gx_callAI (x := ⟨"BorrowedLives$Expression", "worked", "([I)I"⟩) (owner := "BorrowedLives$Expression") (t0 := 13) (As := [rv g v57]) (rest := []) C E rfl dX1_spends_60 ((mxwk (cx_l X) g 700).2 v53 v57) q1344 q1346 q1360 q1357 q157 q1358 q1345 hy9_X11_worked hR (Nat.le_of_ble_eq_true rfl) (by decide) rfl rfl (Nat.zero_le _) kk) ?_
      exact gx_dnil
    exact gj_to [2, 3, 4, 5, 1, 0] (J63 a0 a1 a2 a3 v5 v11 v60) rfl
  · refine gx_aload C dX1_spends_39 0 rfl ?_
    refine gx_gIs (O := "BorrowedLives$Person") (nm := "skill") (ds := "I") (fin := false) C E dX1_spends_41 (by decide +kernel) (Or.inl q879) (fun _ h => h) (fun v41 => ?_)
    refine gj_iconst C dX1_spends_44 ?_
    refine gj_imul C dX1_spends_45 ?_
    refine gj_goto (tgt := 63) C dX1_spends_46 (by decide) ?_
    exact gj_to [2, 3, 4, 5, 1, 0] (J63 a0 a1 a2 a3 v5 v11 (v41 * 2)) rfl
def x1_mends_j87 (a1 : Option Nat) (a2 a5 : Int) : PT Hp Unit :=
  pbnd (xgR a1 4 2) fun v88 =>
  pbnd (xgR a1 4 2) fun v93 =>
  pbnd (xld v93 40 a2) fun v97 =>
  pbnd (x1_between (v97 + a5) 0 9) fun v104 =>
  pbnd (xst v88 40 a2 v104) fun _ =>
  pret ()
def x1_mends (a0 a1 : Option Nat) (a2 : Int) : PT Hp Unit :=
  pbnd (xgR a1 4 6) fun v1 =>
  pbnd (xld v1 40 a2) fun v5 =>
  pbnd (xrecv a0 1) fun _ =>
  pbnd (x1_person_2 a0 v5) fun v9 =>
  pbnd (xgIs v9 [6, 7, 8, 9] 1) fun v12 =>
  plet (if 4 < w32 v12 then 1 else if w32 v12 < 3 then (-1) else 0) fun d38 =>
  pbnd (xrecv a0 1) fun _ =>
  pbnd (x1_person_2 a0 v5) fun v46 =>
  pbnd (xdisp v46 [(6, x7_findsHidden v46), (7, x7_findsHidden v46), (8, x9_findsHidden v46), (9, x7_findsHidden v46)]) fun v49 =>
  pbnd (xrecv a0 1) fun _ =>
  pbnd (x1_lays a0 a1 a2 v5 v49) fun _ =>
  pbnd (xgR a0 1 2) fun v56 =>
  pbnd (xgR v56 3 4) fun v59 =>
  pite (v59 = none) (
    x1_mends_j87 a1 a2 d38) (
    pbnd (xgR a0 1 2) fun v66 =>
    pbnd (xgR v66 3 4) fun v69 =>
    pbnd (xgR a0 1 7) fun v73 =>
    pbnd (xdisp v69 [(10, x12_worked v69 v73), (11, x13_worked v69 v73), (12, (xwk 700).1 v69 v73), (13, (xwk 700).2 v69 v73)]) fun v76 =>
    pbnd (x1_between v76 (-3) 3) fun v82 =>
    x1_mends_j87 a1 a2 v82)
set_option maxHeartbeats 4000000 in
set_option maxRecDepth 100000 in
theorem mx1_mends (l : Launch) (g : XG) (a0 a1 : Option Nat) (a2 : Int) : XMet l g yX1_mends cX1_mends 6 (Option.none : Option Jvm.ClassFile.FieldType) (702) [rv g a0, rv g a1, .int (iI a2)] (x1_mends a0 a1 a2) rvV := by
  refine gx_start (by decide +kernel) (by have e := lg_sl_len [rv g a0, rv g a1, .int (iI a2)]; simp only [List.map_cons, List.map_nil, List.sum_cons, List.sum_nil, rv_cat, cat_int, cat_long] at e; omega) (fun X Q σ0 hl C E hQ hR hr hnm => ?_)
  subst hl
  rw [show lv_args 0 [rv g a0, rv g a1, .int (iI a2)] = [(0, rv g a0), (1, rv g a1), (2, .int (iI a2))] from by simp [lv_args, rv_cat, cat_int, cat_long]]
  show GJ X 6 (xWo g σ0 (cx_s X).heap) Q (x1_mends a0 a1 a2) 0 [(0, rv g a0), (1, rv g a1), (2, .int (iI a2))] []
  have J87 : ∀ (a1 : Option Nat) (a2 a5 : Int), GJ X 6 (xWo g σ0 (cx_s X).heap) Q (x1_mends_j87 a1 a2 a5) 87 [(1, rv g a1), (2, .int (iI a2)), (5, .int (iI a5))] [] := by
    intro a1 a2 a5
    unfold x1_mends_j87
    refine gx_aload_n C dX1_mends_87 0 rfl ?_
    refine gx_gR (O := "BorrowedLives$State") (nm := "home") (ds := "[I") (fin := true) C E dX1_mends_88 (by decide +kernel) (Or.inr ⟨_, q296⟩) (fun _ h => h) (fun v88 => ?_)
    refine gj_iload_n C dX1_mends_91 1 rfl ?_
    refine gx_aload_n C dX1_mends_92 0 rfl ?_
    refine gx_gR (O := "BorrowedLives$State") (nm := "home") (ds := "[I") (fin := true) C E dX1_mends_93 (by decide +kernel) (Or.inr ⟨_, q296⟩) (fun _ h => h) (fun v93 => ?_)
    refine gj_iload_n C dX1_mends_96 1 rfl ?_
    refine gx_iald C E dX1_mends_97 (fun v97 => ?_)
    refine gj_iload C dX1_mends_98 2 rfl ?_
    refine gj_iadd C dX1_mends_100 ?_
    refine gj_iconst C dX1_mends_101 ?_
    refine gj_bipush C dX1_mends_102 rfl ?_
    refine gx_callSI (As := [.int (iI ((v97 + a5))), .int (iI 0), .int (iI 9)]) (rest := [.int (iI a2), rv g v88]) C E dX1_mends_104 (mx1_between (cx_l X) g (v97 + a5) 0 9) (lw_S q1362 q1363 q125 q1364) hyx_X1_between hR (Nat.le_of_ble_eq_true rfl) (by decide) rfl rfl (by simp only [List.map_cons, List.map_nil, List.sum_cons, List.sum_nil, rv_cat, cat_int, cat_long]; decide) (fun v104 => ?_)
    refine gx_iast C E dX1_mends_107 ?_
    exact gx_vret C hQ hr dX1_mends_108
  unfold x1_mends
  refine gx_aload_n C dX1_mends_0 1 rfl ?_
  refine gx_gR (O := "BorrowedLives$State") (nm := "self") (ds := "[I") (fin := true) C E dX1_mends_1 (by decide +kernel) (Or.inr ⟨_, q303⟩) (fun _ h => h) (fun v1 => ?_)
  refine gj_iload_n C dX1_mends_4 2 rfl ?_
  refine gx_iald C E dX1_mends_5 (fun v5 => ?_)
  refine gj_istore_n (L' := [(3, _), (0, _), (1, _), (2, _)]) C dX1_mends_6 (by decide) rfl ?_
  refine gx_aload_n C dX1_mends_7 1 rfl ?_
  refine gj_iload_n C dX1_mends_8 0 rfl ?_
  refine gx_callVR (t0 := 1) (As := [.int (iI v5)]) (rest := []) C E rfl dX1_mends_9 (mx1_person_2 (cx_l X) g a0 v5) (lw_V q1200 q1202 qs30 q125 q1203) hyx_X1_person_2 rfl hR (Nat.le_of_ble_eq_true rfl) (by decide) rfl rfl (Nat.zero_le _) (fun v9 => ?_)
  refine gx_gIs (O := "BorrowedLives$Person") (nm := "skill") (ds := "I") (fin := false) C E dX1_mends_12 (by decide +kernel) (Or.inl q879) (fun _ h => h) (fun v12 => ?_)
  refine gj_istore (L' := [(4, _), (3, _), (0, _), (1, _), (2, _)]) C dX1_mends_15 (by decide) rfl ?_
  refine gj_iload C dX1_mends_17 0 rfl ?_
  refine gj_iconst C dX1_mends_19 ?_
  refine gj_dia (J := 38) (L := [(4, .int (iI v12)), (3, .int (iI v5)), (0, rv g a0), (1, rv g a1), (2, .int (iI a2))]) (st := []) (fun d38 => ?_) (fun t hJ => ?_)
  · skip
    refine gj_istore (L' := [(5, _), (4, _), (3, _), (0, _), (1, _), (2, _)]) C dX1_mends_38 (by decide) rfl ?_
    refine gx_aload_n C dX1_mends_40 3 rfl ?_
    refine gx_aload_n C dX1_mends_41 4 rfl ?_
    refine gj_iload_n C dX1_mends_42 5 rfl ?_
    refine gj_iload_n C dX1_mends_43 2 rfl ?_
    refine gx_aload_n C dX1_mends_44 3 rfl ?_
    refine gj_iload_n C dX1_mends_45 2 rfl ?_
    refine gx_callVR (t0 := 1) (As := [.int (iI v5)]) (rest := [.int (iI v5), .int (iI a2), rv g a1, rv g a0]) C E rfl dX1_mends_46 (mx1_person_2 (cx_l X) g a0 v5) (lw_V q1200 q1202 qs30 q125 q1203) hyx_X1_person_2 rfl hR (Nat.le_of_ble_eq_true rfl) (by decide) rfl rfl (by simp only [List.map_cons, List.map_nil, List.sum_cons, List.sum_nil, rv_cat, cat_int, cat_long]; decide) (fun v46 => ?_)
    refine gx_shI (rest := [.int (iI v5), .int (iI a2), rv g a1, rv g a0]) (fun kk => ?_) (fun v49 => ?_)
    · refine gx_dcons (gx_callOI (x := ⟨"BorrowedLives$Person", "findsHidden", "()Z"⟩) (owner := "BorrowedLives$Person") (t0 := 6) (As := []) (rest := [.int (iI v5), .int (iI a2), rv g a1, rv g a0]) C E rfl dX1_mends_49 (mx7_findsHidden (cx_l X) g v46) q1329 q1332 q1330 q1331 q1330 q149 q1338 q1338 hy9_X7_findsHidden hR (Nat.le_of_ble_eq_true rfl) (by decide) rfl rfl (by simp only [List.map_cons, List.map_nil, List.sum_cons, List.sum_nil, rv_cat, cat_int, cat_long]; decide) kk) ?_
      refine gx_dcons (gx_callOI (x := ⟨"BorrowedLives$Person", "findsHidden", "()Z"⟩) (owner := "BorrowedLives$Person") (t0 := 7) (As := []) (rest := [.int (iI v5), .int (iI a2), rv g a1, rv g a0]) C E rfl dX1_mends_49 (mx7_findsHidden (cx_l X) g v46) q1329 q1332 q1330 q1334 q1330 q149 q1338 q1338 hy9_X7_findsHidden hR (Nat.le_of_ble_eq_true rfl) (by decide) rfl rfl (by simp only [List.map_cons, List.map_nil, List.sum_cons, List.sum_nil, rv_cat, cat_int, cat_long]; decide) kk) ?_
      refine gx_dcons (gx_callOI (x := ⟨"BorrowedLives$Person", "findsHidden", "()Z"⟩) (owner := "BorrowedLives$Person") (t0 := 8) (As := []) (rest := [.int (iI v5), .int (iI a2), rv g a1, rv g a0]) C E rfl dX1_mends_49 (mx9_findsHidden (cx_l X) g v46) q1329 q1332 q1330 q1335 q1336 q151 q1337 q1338 hy9_X7_findsHidden hR (Nat.le_of_ble_eq_true rfl) (by decide) rfl rfl (by simp only [List.map_cons, List.map_nil, List.sum_cons, List.sum_nil, rv_cat, cat_int, cat_long]; decide) kk) ?_
      refine gx_dcons (gx_callOI (x := ⟨"BorrowedLives$Person", "findsHidden", "()Z"⟩) (owner := "BorrowedLives$Person") (t0 := 9) (As := []) (rest := [.int (iI v5), .int (iI a2), rv g a1, rv g a0]) C E rfl dX1_mends_49 (mx7_findsHidden (cx_l X) g v46) q1329 q1332 q1330 q1333 q1330 q149 q1338 q1338 hy9_X7_findsHidden hR (Nat.le_of_ble_eq_true rfl) (by decide) rfl rfl (by simp only [List.map_cons, List.map_nil, List.sum_cons, List.sum_nil, rv_cat, cat_int, cat_long]; decide) kk) ?_
      exact gx_dnil
    refine gx_callVV (t0 := 1) (As := [rv g a1, .int (iI a2), .int (iI v5), .int (iI v49)]) (rest := []) C E rfl dX1_mends_52 (mx1_lays (cx_l X) g a0 a1 a2 v5 v49) (lw_V q1339 q1341 qs37 q125 q1342) hyx_X1_lays rfl hR (Nat.le_of_ble_eq_true rfl) (by decide) rfl rfl (Nat.zero_le _) ?_
    refine gx_aload_n C dX1_mends_55 3 rfl ?_
    refine gx_gR (O := "BorrowedLives") (nm := "town") (ds := "LBorrowedLives$Town;") (fin := false) C E dX1_mends_56 (by decide +kernel) (Or.inl q377) (fun _ h => h) (fun v56 => ?_)
    refine gx_gR (O := "BorrowedLives$Town") (nm := "mends") (ds := "LBorrowedLives$Expression;") (fin := false) C E dX1_mends_59 (by decide +kernel) (Or.inr ⟨_, q262⟩) (fun _ h => h) (fun v59 => ?_)
    refine gx_ifnull (tgt := 87) C dX1_mends_62 (by decide) (fun h62 => gj_pos h62 ?_) (fun h62 => gj_neg h62 ?_)
    · exact gj_to [4, 5, 0] (J87 a1 a2 d38) rfl
    · refine gx_aload_n C dX1_mends_65 3 rfl ?_
      refine gx_gR (O := "BorrowedLives") (nm := "town") (ds := "LBorrowedLives$Town;") (fin := false) C E dX1_mends_66 (by decide +kernel) (Or.inl q377) (fun _ h => h) (fun v66 => ?_)
      refine gx_gR (O := "BorrowedLives$Town") (nm := "mends") (ds := "LBorrowedLives$Expression;") (fin := false) C E dX1_mends_69 (by decide +kernel) (Or.inr ⟨_, q262⟩) (fun _ h => h) (fun v69 => ?_)
      refine gx_aload_n C dX1_mends_72 3 rfl ?_
      refine gx_gR (O := "BorrowedLives") (nm := "facts") (ds := "[I") (fin := true) C E dX1_mends_73 (by decide +kernel) (Or.inl q387) (fun _ h => h) (fun v73 => ?_)
      refine gx_shI (rest := []) (fun kk => ?_) (fun v76 => ?_)
      · refine gx_dcons (gx_callAI (x := ⟨"BorrowedLives$Expression", "worked", "([I)I"⟩) (owner := "BorrowedLives$Expression") (t0 := 10) (As := [rv g v73]) (rest := []) C E rfl dX1_mends_76 (mx12_worked (cx_l X) g v69 v73) q1344 q1346 q1350 q1351 q154 q1352 q1345 hy9_X11_worked hR (Nat.le_of_ble_eq_true rfl) (by decide) rfl rfl (Nat.zero_le _) kk) ?_
        refine gx_dcons (gx_callAI (x := ⟨"BorrowedLives$Expression", "worked", "([I)I"⟩) (owner := "BorrowedLives$Expression") (t0 := 11) (As := [rv g v73]) (rest := []) C E rfl dX1_mends_76 (mx13_worked (cx_l X) g v69 v73) q1344 q1346 q1347 q1348 q155 q1349 q1345 hy9_X11_worked hR (Nat.le_of_ble_eq_true rfl) (by decide) rfl rfl (Nat.zero_le _) kk) ?_
        refine gx_dcons (gx_callAI (x := ⟨"BorrowedLives$Expression", "worked", "([I)I"⟩) (owner := "BorrowedLives$Expression") (t0 := 12) (As := [rv g v73]) (rest := []) C E rfl dX1_mends_76 ((mxwk (cx_l X) g 700).1 v69 v73) q1344 q1346 q1353 q1354 q156 q1355 q1345 hy9_X11_worked hR (Nat.le_of_ble_eq_true rfl) (by decide) rfl rfl (Nat.zero_le _) kk) ?_
        refine gx_dcons (gx_callAI (x := ⟨"BorrowedLives$Expression", "worked", "([I)I"⟩) (owner := "BorrowedLives$Expression") (t0 := 13) (As := [rv g v73]) (rest := []) C E rfl dX1_mends_76 ((mxwk (cx_l X) g 700).2 v69 v73) q1344 q1346 q1360 q1357 q157 q1358 q1345 hy9_X11_worked hR (Nat.le_of_ble_eq_true rfl) (by decide) rfl rfl (Nat.zero_le _) kk) ?_
        exact gx_dnil
      refine gj_bipush C dX1_mends_79 rfl ?_
      refine gj_iconst C dX1_mends_81 ?_
      refine gx_callSI (As := [.int (iI v76), .int (iI (-3)), .int (iI 3)]) (rest := []) C E dX1_mends_82 (mx1_between (cx_l X) g v76 (-3) 3) (lw_S q1362 q1363 q125 q1364) hyx_X1_between hR (Nat.le_of_ble_eq_true rfl) (by decide) rfl rfl (Nat.zero_le _) (fun v82 => ?_)
      refine gj_istore (L' := [(5, _), (4, _), (3, _), (0, _), (1, _), (2, _)]) C dX1_mends_85 (by decide) rfl ?_
      exact gj_to [4, 5, 0] (J87 a1 a2 v82) rfl
  · refine gj_icmp_le (tgt := 27) (b' := 4) C dX1_mends_20 (by decide) rfl (by decide) (fun h20 => ?_) (fun h20 => ?_)
    · refine gj_iload C dX1_mends_27 0 rfl ?_
      refine gj_iconst C dX1_mends_29 ?_
      refine gj_icmp_ge (tgt := 37) (b' := 3) C dX1_mends_30 (by decide) rfl (by decide) (fun h30 => ?_) (fun h30 => ?_)
      · refine gj_iconst C dX1_mends_37 ?_
        exact (by rw [if_neg h20, if_neg h30] at hJ; exact hJ)
      · refine gj_iconst C dX1_mends_33 ?_
        refine gj_goto (tgt := 38) C dX1_mends_34 (by decide) ?_
        exact (by rw [if_neg h20, if_pos h30] at hJ; exact hJ)
    · refine gj_iconst C dX1_mends_23 ?_
      refine gj_goto (tgt := 38) C dX1_mends_24 (by decide) ?_
      exact (by rw [if_pos h20] at hJ; exact hJ)
def x1_passes_b2 (a0 a1 : Option Nat) (a2 : Int) (a3 : Int) (bk2 : (Int) → PT Hp Unit) : PT Hp Unit :=
  pbnd (xrecv a0 1) fun _ =>
  pbnd (x1_people a0) fun v4 =>
  pite (w32 a3 < w32 v4) (
    pbnd (xrecv a0 1) fun _ =>
    pbnd (x1_spends a0 a1 a3 a2) fun _ =>
    pbnd (xrecv a0 1) fun _ =>
    pbnd (x1_mends a0 a1 a3) fun _ =>
    bk2 (a3 + 1)) (
    pbnd (xgI a1 4 8) fun v31 =>
    pbnd (xpI a1 4 8 (w32 (v31 + 1))) fun _ =>
    pret ())
def x1_passes_l2 (a0 a1 : Option Nat) (a2 a3 : Int) : PT Hp Unit :=
  ploop (fun (s : (Int)) bk2 => x1_passes_b2 a0 a1 a2 s bk2) (a3)
def x1_passes (a0 a1 : Option Nat) (a2 : Int) : PT Hp Unit :=
  x1_passes_l2 a0 a1 a2 0
set_option maxHeartbeats 4000000 in
set_option maxRecDepth 100000 in
theorem mx1_passes (l : Launch) (g : XG) (a0 a1 : Option Nat) (a2 : Int) : XMet l g yX1_passes cX1_passes 4 (Option.none : Option Jvm.ClassFile.FieldType) (703) [rv g a0, rv g a1, .int (iI a2)] (x1_passes a0 a1 a2) rvV := by
  refine gx_start (by decide +kernel) (by have e := lg_sl_len [rv g a0, rv g a1, .int (iI a2)]; simp only [List.map_cons, List.map_nil, List.sum_cons, List.sum_nil, rv_cat, cat_int, cat_long] at e; omega) (fun X Q σ0 hl C E hQ hR hr hnm => ?_)
  subst hl
  rw [show lv_args 0 [rv g a0, rv g a1, .int (iI a2)] = [(0, rv g a0), (1, rv g a1), (2, .int (iI a2))] from by simp [lv_args, rv_cat, cat_int, cat_long]]
  show GJ X 4 (xWo g σ0 (cx_s X).heap) Q (x1_passes a0 a1 a2) 0 [(0, rv g a0), (1, rv g a1), (2, .int (iI a2))] []
  have J2 : ∀ (a0 a1 : Option Nat) (a2 a3 : Int), GJ X 4 (xWo g σ0 (cx_s X).heap) Q (x1_passes_l2 a0 a1 a2 a3) 2 [(0, rv g a0), (1, rv g a1), (2, .int (iI a2)), (3, .int (iI a3))] [] := by
    intro a0 a1 a2 a3
    unfold x1_passes_l2
    refine gj_loop (fun (s : (Int)) => [(0, rv g a0), (1, rv g a1), (2, .int (iI a2)), (3, .int (iI s))]) (a3) (fun bk2 hb2 s => ?_)
    obtain ⟨a3, rfl⟩ : ∃ z, z = s := ⟨s, rfl⟩
    show GJ X 4 (xWo g σ0 (cx_s X).heap) Q (x1_passes_b2 a0 a1 a2 a3 bk2) 2 [(0, rv g a0), (1, rv g a1), (2, .int (iI a2)), (3, .int (iI a3))] []
    unfold x1_passes_b2
    refine gj_iload_n C dX1_passes_2 3 rfl ?_
    refine gx_aload_n C dX1_passes_3 0 rfl ?_
    refine gx_callVI (t0 := 1) (As := []) (rest := [.int (iI a3)]) C E rfl dX1_passes_4 (mx1_people (cx_l X) g a0) (lw_V q1192 q1194 qs29 q125 q1195) hyx_X1_people rfl hR (Nat.le_of_ble_eq_true rfl) (by decide) rfl rfl (Nat.le_of_ble_eq_true rfl) (fun v4 => ?_)
    refine gj_icmp_ge (tgt := 29) C dX1_passes_7 (by decide) rfl rfl (fun h7 => gj_neg h7 ?_) (fun h7 => gj_pos h7 ?_)
    · refine gx_aload_n C dX1_passes_29 1 rfl ?_
      refine gx_dup C dX1_passes_30 ?_
      refine gx_gI (O := "BorrowedLives$State") (nm := "days") (ds := "I") (fin := false) C E dX1_passes_31 (by decide +kernel) (Or.inr ⟨_, q312⟩) (fun _ h => h) (fun v31 => ?_)
      refine gj_iconst C dX1_passes_34 ?_
      refine gj_iadd C dX1_passes_35 ?_
      refine gj_nrmI ?_
      refine gx_pI (O := "BorrowedLives$State") (nm := "days") (ds := "I") (fin := false) (ty := .int) C E dX1_passes_36 (by decide +kernel) (Or.inr ⟨_, q312⟩) (fun _ h => h) (fun h => by cases h) (by decide +kernel) (inty_int _) ?_
      exact gx_vret C hQ hr dX1_passes_39
    · refine gx_aload_n C dX1_passes_10 0 rfl ?_
      refine gx_aload_n C dX1_passes_11 1 rfl ?_
      refine gj_iload_n C dX1_passes_12 3 rfl ?_
      refine gj_iload_n C dX1_passes_13 2 rfl ?_
      refine gx_callVV (t0 := 1) (As := [rv g a1, .int (iI a3), .int (iI a2)]) (rest := []) C E rfl dX1_passes_14 (mx1_spends (cx_l X) g a0 a1 a3 a2) (lw_V q1325 q1327 qs36 q125 q1328) hyx_X1_spends rfl hR (Nat.le_of_ble_eq_true rfl) (by decide) rfl rfl (Nat.zero_le _) ?_
      refine gx_aload_n C dX1_passes_17 0 rfl ?_
      refine gx_aload_n C dX1_passes_18 1 rfl ?_
      refine gj_iload_n C dX1_passes_19 3 rfl ?_
      refine gx_callVV (t0 := 1) (As := [rv g a1, .int (iI a3)]) (rest := []) C E rfl dX1_passes_20 (mx1_mends (cx_l X) g a0 a1 a3) (lw_V q1394 q1396 qs39 q125 q1397) hyx_X1_mends rfl hR (Nat.le_of_ble_eq_true rfl) (by decide) rfl rfl (Nat.zero_le _) ?_
      refine gj_iinc (L' := [(3, _), (0, _), (1, _), (2, _)]) C dX1_passes_23 3 rfl (by decide) rfl ?_
      refine gj_goto (tgt := 2) C dX1_passes_26 (by decide) ?_
      exact gj_to [1, 2, 3, 0] (hb2 (a3 + 1)) rfl
  unfold x1_passes
  refine gj_iconst C dX1_passes_0 ?_
  refine gj_istore_n (L' := [(3, _), (0, _), (1, _), (2, _)]) C dX1_passes_1 (by decide) rfl ?_
  exact gj_to [1, 2, 3, 0] (J2 a0 a1 a2 0) rfl
def x22_lives_b25 (a0 : Option Nat) (a3 : Int) (a4 : Int) (bk25 : (Int) → PT Hp Unit) : PT Hp Unit :=
  pite (w32 a4 < 7) (
    pbnd (xgRs a0 [19, 20, 21, 22, 23, 24] 1) fun v33 =>
    pbnd (xgRs a0 [19, 20, 21, 22, 23, 24] 1) fun v37 =>
    pbnd (xgR v37 1 6) fun v40 =>
    pbnd (xrecv v33 1) fun _ =>
    pbnd (x1_passes v33 v40 a3) fun _ =>
    bk25 (a4 + 1)) (
    pret ())
def x22_lives_l25 (a0 : Option Nat) (a3 a4 : Int) : PT Hp Unit :=
  ploop (fun (s : (Int)) bk25 => x22_lives_b25 a0 a3 s bk25) (a4)
def x22_lives (a0 a1 a2 : Option Nat) (a3 : Int) : PT Hp Unit :=
  pbnd (xgRs a0 [19, 20, 21, 22, 23, 24] 1) fun v1 =>
  pbnd (xgR v1 1 6) fun v4 =>
  pbnd (xrecv v4 4) fun _ =>
  pbnd (x4_be v4 a1) fun _ =>
  pbnd (xgRs a0 [19, 20, 21, 22, 23, 24] 1) fun v12 =>
  pbnd (xgR v12 1 6) fun v15 =>
  pbnd (xrecv v15 4) fun _ =>
  pbnd (x4_goes v15 a2) fun _ =>
  x22_lives_l25 a0 a3 0
set_option maxHeartbeats 4000000 in
set_option maxRecDepth 100000 in
theorem mx22_lives (l : Launch) (g : XG) (a0 a1 a2 : Option Nat) (a3 : Int) : XMet l g yX22_lives cX22_lives 5 (Option.none : Option Jvm.ClassFile.FieldType) (704) [rv g a0, rv g a1, rv g a2, .int (iI a3)] (x22_lives a0 a1 a2 a3) rvV := by
  refine gx_start (by decide +kernel) (by have e := lg_sl_len [rv g a0, rv g a1, rv g a2, .int (iI a3)]; simp only [List.map_cons, List.map_nil, List.sum_cons, List.sum_nil, rv_cat, cat_int, cat_long] at e; omega) (fun X Q σ0 hl C E hQ hR hr hnm => ?_)
  subst hl
  rw [show lv_args 0 [rv g a0, rv g a1, rv g a2, .int (iI a3)] = [(0, rv g a0), (1, rv g a1), (2, rv g a2), (3, .int (iI a3))] from by simp [lv_args, rv_cat, cat_int, cat_long]]
  show GJ X 5 (xWo g σ0 (cx_s X).heap) Q (x22_lives a0 a1 a2 a3) 0 [(0, rv g a0), (1, rv g a1), (2, rv g a2), (3, .int (iI a3))] []
  have J25 : ∀ (a0 : Option Nat) (a3 a4 : Int), GJ X 5 (xWo g σ0 (cx_s X).heap) Q (x22_lives_l25 a0 a3 a4) 25 [(0, rv g a0), (3, .int (iI a3)), (4, .int (iI a4))] [] := by
    intro a0 a3 a4
    unfold x22_lives_l25
    refine gj_loop (fun (s : (Int)) => [(0, rv g a0), (3, .int (iI a3)), (4, .int (iI s))]) (a4) (fun bk25 hb25 s => ?_)
    obtain ⟨a4, rfl⟩ : ∃ z, z = s := ⟨s, rfl⟩
    show GJ X 5 (xWo g σ0 (cx_s X).heap) Q (x22_lives_b25 a0 a3 a4 bk25) 25 [(0, rv g a0), (3, .int (iI a3)), (4, .int (iI a4))] []
    unfold x22_lives_b25
    refine gj_iload C dX22_lives_25 2 rfl ?_
    refine gj_bipush C dX22_lives_27 rfl ?_
    refine gj_icmp_ge (tgt := 53) (b' := 7) C dX22_lives_29 (by decide) rfl (by decide) (fun h29 => gj_neg h29 ?_) (fun h29 => gj_pos h29 ?_)
    · exact gx_vret C hQ hr dX22_lives_53
    · refine gx_aload_n C dX22_lives_32 0 rfl ?_
      refine gx_gRs (O := "BorrowedLives$Looker") (nm := "this$0") (ds := "LBorrowedLives;") (fin := true) C E dX22_lives_33 (by decide +kernel) (Or.inl q1274) (fun _ h => h) (fun v33 => ?_)
      refine gx_aload_n C dX22_lives_36 0 rfl ?_
      refine gx_gRs (O := "BorrowedLives$Looker") (nm := "this$0") (ds := "LBorrowedLives;") (fin := true) C E dX22_lives_37 (by decide +kernel) (Or.inl q1274) (fun _ h => h) (fun v37 => ?_)
      refine gx_gR (O := "BorrowedLives") (nm := "week") (ds := "LBorrowedLives$State;") (fin := true) C E dX22_lives_40 (by decide +kernel) (Or.inr ⟨_, q385⟩) (fun _ h => h) (fun v40 => ?_)
      refine gj_iload_n C dX22_lives_43 1 rfl ?_
      refine gx_callVNV (t0 := 1) (As := [rv g v40, .int (iI a3)]) (rest := []) C E rfl dX22_lives_44 (mx1_passes (cx_l X) g v33 v40 a3) (lw_meth q1324) q125 q1419 q1323 qs35 hyx_X1_passes rfl hR (Nat.le_of_ble_eq_true rfl) (by decide) rfl rfl (Nat.zero_le _) ?_
      refine gj_iinc (L' := [(4, _), (0, _), (3, _)]) C dX22_lives_47 2 rfl (by decide) rfl ?_
      refine gj_goto (tgt := 25) C dX22_lives_50 (by decide) ?_
      exact gj_to [1, 2, 0] (hb25 (a4 + 1)) rfl
  unfold x22_lives
  refine gx_aload_n C dX22_lives_0 0 rfl ?_
  refine gx_gRs (O := "BorrowedLives$Looker") (nm := "this$0") (ds := "LBorrowedLives;") (fin := true) C E dX22_lives_1 (by decide +kernel) (Or.inl q1274) (fun _ h => h) (fun v1 => ?_)
  refine gx_gR (O := "BorrowedLives") (nm := "week") (ds := "LBorrowedLives$State;") (fin := true) C E dX22_lives_4 (by decide +kernel) (Or.inr ⟨_, q385⟩) (fun _ h => h) (fun v4 => ?_)
  refine gx_aload_n C dX22_lives_7 1 rfl ?_
  refine gx_callVV (t0 := 4) (As := [rv g a1]) (rest := []) C E rfl dX22_lives_8 (mx4_be (cx_l X) g v4 a1) (lw_V q1417 q1307 q1308 q131 q1309) hyx_X4_be rfl hR (Nat.le_of_ble_eq_true rfl) (by decide) rfl rfl (Nat.zero_le _) ?_
  refine gx_aload_n C dX22_lives_11 0 rfl ?_
  refine gx_gRs (O := "BorrowedLives$Looker") (nm := "this$0") (ds := "LBorrowedLives;") (fin := true) C E dX22_lives_12 (by decide +kernel) (Or.inl q1274) (fun _ h => h) (fun v12 => ?_)
  refine gx_gR (O := "BorrowedLives") (nm := "week") (ds := "LBorrowedLives$State;") (fin := true) C E dX22_lives_15 (by decide +kernel) (Or.inr ⟨_, q385⟩) (fun _ h => h) (fun v15 => ?_)
  refine gx_aload_n C dX22_lives_18 2 rfl ?_
  refine gx_callVV (t0 := 4) (As := [rv g a2]) (rest := []) C E rfl dX22_lives_19 (mx4_goes (cx_l X) g v15 a2) (lw_V q1418 q1314 q1315 q131 q1316) hyx_X4_goes rfl hR (Nat.le_of_ble_eq_true rfl) (by decide) rfl rfl (Nat.zero_le _) ?_
  refine gj_iconst C dX22_lives_22 ?_
  refine gj_istore (L' := [(4, _), (0, _), (1, _), (2, _), (3, _)]) C dX22_lives_23 (by decide) rfl ?_
  exact gj_to [1, 4, 0] (J25 a0 a3 0) rfl
def x4_harmOfAll_b4 (a0 : Option Nat) (a1 a2 : Int) (bk4 : (Int × Int) → PT Hp Int) : PT Hp Int :=
  pite (w32 a2 < 6) (
    pbnd (xrecv a0 4) fun _ =>
    pbnd (x4_harmOf a0 a2) fun v13 =>
    plet (a1 + v13) fun x17 =>
    bk4 (x17, a2 + 1)) (
    pret (w32 a1))
def x4_harmOfAll_l4 (a0 : Option Nat) (a1 a2 : Int) : PT Hp Int :=
  ploop (fun (s : (Int × Int)) bk4 => x4_harmOfAll_b4 a0 s.1 s.2 bk4) (a1, a2)
def x4_harmOfAll (a0 : Option Nat) : PT Hp Int :=
  x4_harmOfAll_l4 a0 0 0
set_option maxHeartbeats 4000000 in
set_option maxRecDepth 100000 in
theorem mx4_harmOfAll (l : Launch) (g : XG) (a0 : Option Nat) : XMet l g yX4_harmOfAll cX4_harmOfAll 3 (Option.some Jvm.ClassFile.FieldType.int) (2) [rv g a0] (x4_harmOfAll a0) rvI := by
  refine gx_start (by decide +kernel) (by have e := lg_sl_len [rv g a0]; simp only [List.map_cons, List.map_nil, List.sum_cons, List.sum_nil, rv_cat, cat_int, cat_long] at e; omega) (fun X Q σ0 hl C E hQ hR hr hnm => ?_)
  subst hl
  rw [show lv_args 0 [rv g a0] = [(0, rv g a0)] from by simp [lv_args, rv_cat, cat_int, cat_long]]
  show GJ X 3 (xWo g σ0 (cx_s X).heap) Q (x4_harmOfAll a0) 0 [(0, rv g a0)] []
  have J4 : ∀ (a0 : Option Nat) (a1 a2 : Int), GJ X 3 (xWo g σ0 (cx_s X).heap) Q (x4_harmOfAll_l4 a0 a1 a2) 4 [(0, rv g a0), (1, .int (iI a1)), (2, .int (iI a2))] [] := by
    intro a0 a1 a2
    unfold x4_harmOfAll_l4
    refine gj_loop (fun (s : (Int × Int)) => [(0, rv g a0), (1, .int (iI (s.1))), (2, .int (iI (s.2)))]) (a1, a2) (fun bk4 hb4 s => ?_)
    obtain ⟨a1, a2⟩ := s
    show GJ X 3 (xWo g σ0 (cx_s X).heap) Q (x4_harmOfAll_b4 a0 a1 a2 bk4) 4 [(0, rv g a0), (1, .int (iI a1)), (2, .int (iI a2))] []
    unfold x4_harmOfAll_b4
    refine gj_iload_n C dX4_harmOfAll_4 2 rfl ?_
    refine gj_bipush C dX4_harmOfAll_5 rfl ?_
    refine gj_icmp_ge (tgt := 24) (b' := 6) C dX4_harmOfAll_7 (by decide) rfl (by decide) (fun h7 => gj_neg h7 ?_) (fun h7 => gj_pos h7 ?_)
    · refine gj_iload_n C dX4_harmOfAll_24 1 rfl ?_
      refine gj_nrmI ?_
      exact gx_iret C hQ hr dX4_harmOfAll_25
    · refine gj_iload_n C dX4_harmOfAll_10 1 rfl ?_
      refine gx_aload_n C dX4_harmOfAll_11 0 rfl ?_
      refine gj_iload_n C dX4_harmOfAll_12 2 rfl ?_
      refine gx_callVI (t0 := 4) (As := [.int (iI a2)]) (rest := [.int (iI a1)]) C E rfl dX4_harmOfAll_13 (mx4_harmOf (cx_l X) g a0 a2) (lw_V q1424 q1229 q1230 q131 q1231) hyx_X4_harmOf rfl hR (Nat.le_of_ble_eq_true rfl) (by decide) rfl rfl (Nat.le_of_ble_eq_true rfl) (fun v13 => ?_)
      refine gj_iadd C dX4_harmOfAll_16 ?_
      refine gj_let (fun x17 => ?_)
      refine gj_istore_n (L' := [(1, .int (iI x17)), (0, rv g a0), (2, .int (iI a2))]) C dX4_harmOfAll_17 (by decide) (by simp [List.filter, rv_cat, cat_int, cat_long, fin4_3]) ?_
      refine gj_iinc (L' := [(2, _), (1, _), (0, _)]) C dX4_harmOfAll_18 2 rfl (by decide) rfl ?_
      refine gj_goto (tgt := 4) C dX4_harmOfAll_21 (by decide) ?_
      exact gj_to [2, 1, 0] (hb4 (x17, a2 + 1)) rfl
  unfold x4_harmOfAll
  refine gj_iconst C dX4_harmOfAll_0 ?_
  refine gj_istore_n (L' := [(1, .int (iI 0)), (0, rv g a0)]) C dX4_harmOfAll_1 (by decide) (by simp [List.filter, rv_cat, cat_int, cat_long, fin4_3]) ?_
  refine gj_iconst C dX4_harmOfAll_2 ?_
  refine gj_istore_n (L' := [(2, _), (1, _), (0, _)]) C dX4_harmOfAll_3 (by decide) rfl ?_
  exact gj_to [2, 1, 0] (J4 a0 0 0) rfl
def x25_sees_j50 (a0 a1 : Option Nat) (a2 : Int) : PT Hp Unit :=
  pbnd (xpI a0 21 3 (w32 a2)) fun _ =>
  pbnd (xgR a0 21 2) fun v57 =>
  pbnd (x1_copies a1 v57) fun _ =>
  pret ()
def x25_sees (a0 a1 : Option Nat) : PT Hp Unit :=
  pbnd (xgR a0 21 4) fun v2 =>
  pbnd (xgR v2 1 4) fun v5 =>
  pbnd (xgR a0 21 4) fun v10 =>
  pbnd (xgR v10 1 2) fun v13 =>
  pbnd (xrecv v13 3) fun _ =>
  pbnd (x3_sign v13) fun v16 =>
  pbnd (xrecv a0 21) fun _ =>
  pbnd (x22_lives a0 v5 a1 v16) fun _ =>
  pbnd (xgR a0 21 4) fun v23 =>
  pbnd (xgR v23 1 6) fun v26 =>
  pbnd (xrecv v26 4) fun _ =>
  pbnd (x4_harmOfAll v26) fun v29 =>
  pbnd (xgI a0 21 0) fun v34 =>
  pite (1 < w32 v34) (
    pbnd (xgI a0 21 3) fun v43 =>
    pite (w32 v29 < w32 v43) (
      x25_sees_j50 a0 a1 v29) (
      pret ())) (
    x25_sees_j50 a0 a1 v29)
set_option maxHeartbeats 4000000 in
set_option maxRecDepth 100000 in
theorem mx25_sees (l : Launch) (g : XG) (a0 a1 : Option Nat) : XMet l g yX25_sees cX25_sees 3 (Option.none : Option Jvm.ClassFile.FieldType) (705) [rv g a0, rv g a1] (x25_sees a0 a1) rvV := by
  refine gx_start (by decide +kernel) (by have e := lg_sl_len [rv g a0, rv g a1]; simp only [List.map_cons, List.map_nil, List.sum_cons, List.sum_nil, rv_cat, cat_int, cat_long] at e; omega) (fun X Q σ0 hl C E hQ hR hr hnm => ?_)
  subst hl
  rw [show lv_args 0 [rv g a0, rv g a1] = [(0, rv g a0), (1, rv g a1)] from by simp [lv_args, rv_cat, cat_int, cat_long]]
  show GJ X 3 (xWo g σ0 (cx_s X).heap) Q (x25_sees a0 a1) 0 [(0, rv g a0), (1, rv g a1)] []
  have J50 : ∀ (a0 a1 : Option Nat) (a2 : Int), GJ X 3 (xWo g σ0 (cx_s X).heap) Q (x25_sees_j50 a0 a1 a2) 50 [(0, rv g a0), (1, rv g a1), (2, .int (iI a2))] [] := by
    intro a0 a1 a2
    unfold x25_sees_j50
    refine gx_aload_n C dX25_sees_50 0 rfl ?_
    refine gj_iload_n C dX25_sees_51 2 rfl ?_
    refine gj_nrmI ?_
    refine gx_pI (O := "BorrowedLives$Least") (nm := "harm") (ds := "I") (fin := false) (ty := .int) C E dX25_sees_52 (by decide +kernel) (Or.inl q1560) (fun _ h => h) (fun h => by cases h) (by decide +kernel) (inty_int _) ?_
    refine gx_aload_n C dX25_sees_55 1 rfl ?_
    refine gx_aload_n C dX25_sees_56 0 rfl ?_
    refine gx_gR (O := "BorrowedLives$Least") (nm := "best") (ds := "[I") (fin := true) C E dX25_sees_57 (by decide +kernel) (Or.inl q1558) (fun _ h => h) (fun v57 => ?_)
    refine gx_callSNV (As := [rv g a1, rv g v57]) (rest := []) C E dX25_sees_60 (mx1_copies (cx_l X) g a1 v57) (lw_meth q1312) q125 q1434 q1311 hyx_X1_copies hR (Nat.le_of_ble_eq_true rfl) (by decide) rfl rfl (Nat.zero_le _) ?_
    exact gx_vret C hQ hr dX25_sees_63
  unfold x25_sees
  refine gx_aload_n C dX25_sees_0 0 rfl ?_
  refine gx_aload_n C dX25_sees_1 0 rfl ?_
  refine gx_gR (O := "BorrowedLives$Least") (nm := "this$0") (ds := "LBorrowedLives;") (fin := true) C E dX25_sees_2 (by decide +kernel) (Or.inl q1562) (fun _ h => h) (fun v2 => ?_)
  refine gx_gR (O := "BorrowedLives") (nm := "state") (ds := "LBorrowedLives$State;") (fin := true) C E dX25_sees_5 (by decide +kernel) (Or.inr ⟨_, q379⟩) (fun _ h => h) (fun v5 => ?_)
  refine gx_aload_n C dX25_sees_8 1 rfl ?_
  refine gx_aload_n C dX25_sees_9 0 rfl ?_
  refine gx_gR (O := "BorrowedLives$Least") (nm := "this$0") (ds := "LBorrowedLives;") (fin := true) C E dX25_sees_10 (by decide +kernel) (Or.inl q1562) (fun _ h => h) (fun v10 => ?_)
  refine gx_gR (O := "BorrowedLives") (nm := "town") (ds := "LBorrowedLives$Town;") (fin := false) C E dX25_sees_13 (by decide +kernel) (Or.inr ⟨_, q375⟩) (fun _ h => h) (fun v13 => ?_)
  refine gx_callVI (t0 := 3) (As := []) (rest := [rv g a1, rv g v5, rv g a0]) C E rfl dX25_sees_16 (mx3_sign (cx_l X) g v13) (lw_V q1429 q1318 q1319 q127 q1320) hyx_X3_sign rfl hR (Nat.le_of_ble_eq_true rfl) (by decide) rfl rfl (by simp only [List.map_cons, List.map_nil, List.sum_cons, List.sum_nil, rv_cat, cat_int, cat_long]; decide) (fun v16 => ?_)
  refine gx_callHV (x := ⟨"BorrowedLives$Least", "lives", "(LBorrowedLives$State;[II)V"⟩) (owner := "BorrowedLives$Looker") (t0 := 21) (As := [rv g v5, rv g a1, .int (iI v16)]) (rest := []) C E rfl dX25_sees_19 (mx22_lives (cx_l X) g a0 v5 a1 v16) q1430 q1431 q1432 q1415 q164 q1416 rfl hy9_X22_lives_X25 hR (Nat.le_of_ble_eq_true rfl) (by decide) rfl rfl (Nat.zero_le _) ?_
  refine gx_aload_n C dX25_sees_22 0 rfl ?_
  refine gx_gR (O := "BorrowedLives$Least") (nm := "this$0") (ds := "LBorrowedLives;") (fin := true) C E dX25_sees_23 (by decide +kernel) (Or.inl q1562) (fun _ h => h) (fun v23 => ?_)
  refine gx_gR (O := "BorrowedLives") (nm := "week") (ds := "LBorrowedLives$State;") (fin := true) C E dX25_sees_26 (by decide +kernel) (Or.inr ⟨_, q383⟩) (fun _ h => h) (fun v26 => ?_)
  refine gx_callVI (t0 := 4) (As := []) (rest := []) C E rfl dX25_sees_29 (mx4_harmOfAll (cx_l X) g v26) (lw_V q1433 q1421 q1422 q131 q1423) hyx_X4_harmOfAll rfl hR (Nat.le_of_ble_eq_true rfl) (by decide) rfl rfl (Nat.zero_le _) (fun v29 => ?_)
  refine gj_istore_n (L' := [(2, .int (iI v29)), (0, rv g a0), (1, rv g a1)]) C dX25_sees_32 (by decide) (by simp [List.filter, rv_cat, cat_int, cat_long, fin4_3]) ?_
  refine gx_aload_n C dX25_sees_33 1 rfl ?_
  refine gx_gI (O := "BorrowedLives$Looker") (nm := "lots") (ds := "I") (fin := false) C E dX25_sees_34 (by decide +kernel) (Or.inl q1266) (fun x h => u_same (C.2.2.2.2.2 _ q1267) x h) (fun v34 => ?_)
  refine gj_iconst C dX25_sees_37 ?_
  refine gj_icmp_le (tgt := 50) (b' := 1) C dX25_sees_38 (by decide) rfl (by decide) (fun h38 => gj_neg h38 ?_) (fun h38 => gj_pos h38 ?_)
  · exact gj_to [1, 2, 0] (J50 a0 a1 v29) rfl
  · refine gj_iload_n C dX25_sees_41 0 rfl ?_
    refine gx_aload_n C dX25_sees_42 1 rfl ?_
    refine gx_gI (O := "BorrowedLives$Least") (nm := "harm") (ds := "I") (fin := false) C E dX25_sees_43 (by decide +kernel) (Or.inl q1560) (fun _ h => h) (fun v43 => ?_)
    refine gj_icmp_lt (tgt := 50) C dX25_sees_46 (by decide) rfl rfl (fun h46 => gj_pos h46 ?_) (fun h46 => gj_neg h46 ?_)
    · exact gj_to [1, 2, 0] (J50 a0 a1 v29) rfl
    · exact gx_vret C hQ hr dX25_sees_49
def x26_sees_j57 (s0 : Option Nat) (s1 s2 : Int) : PT Hp Unit :=
  pbnd (xpI s0 22 4 (w64 (s1 + s2))) fun _ =>
  pret ()
def x26_sees (a0 a1 : Option Nat) : PT Hp Unit :=
  pbnd (xgR a0 22 5) fun v2 =>
  pbnd (xgR v2 1 5) fun v5 =>
  pbnd (xgI a0 22 3) fun v10 =>
  pbnd (xrecv a0 22) fun _ =>
  pbnd (x22_lives a0 v5 a1 v10) fun _ =>
  pbnd (xgI a0 22 4) fun v18 =>
  pbnd (xgI a0 22 2) fun v22 =>
  pite (w32 v22 < 0) (
    pbnd (xgR a0 22 5) fun v29 =>
    pbnd (xgR v29 1 6) fun v32 =>
    pbnd (xrecv v32 4) fun _ =>
    pbnd (x4_harmOfAll v32) fun v35 =>
    x26_sees_j57 a0 v18 (zi2l v35)) (
    pbnd (xgR a0 22 5) fun v43 =>
    pbnd (xgR v43 1 6) fun v46 =>
    pbnd (xgI a0 22 2) fun v50 =>
    pbnd (xrecv v46 4) fun _ =>
    pbnd (x4_harmOf v46 v50) fun v53 =>
    x26_sees_j57 a0 v18 (zi2l v53))
set_option maxHeartbeats 4000000 in
set_option maxRecDepth 100000 in
theorem mx26_sees (l : Launch) (g : XG) (a0 a1 : Option Nat) : XMet l g yX26_sees cX26_sees 2 (Option.none : Option Jvm.ClassFile.FieldType) (705) [rv g a0, rv g a1] (x26_sees a0 a1) rvV := by
  refine gx_start (by decide +kernel) (by have e := lg_sl_len [rv g a0, rv g a1]; simp only [List.map_cons, List.map_nil, List.sum_cons, List.sum_nil, rv_cat, cat_int, cat_long] at e; omega) (fun X Q σ0 hl C E hQ hR hr hnm => ?_)
  subst hl
  rw [show lv_args 0 [rv g a0, rv g a1] = [(0, rv g a0), (1, rv g a1)] from by simp [lv_args, rv_cat, cat_int, cat_long]]
  show GJ X 2 (xWo g σ0 (cx_s X).heap) Q (x26_sees a0 a1) 0 [(0, rv g a0), (1, rv g a1)] []
  have J57 : ∀ (s0 : Option Nat) (s1 s2 : Int), GJ X 2 (xWo g σ0 (cx_s X).heap) Q (x26_sees_j57 s0 s1 s2) 57 [] [.long (iL s2), .long (iL s1), rv g s0] := by
    intro s0 s1 s2
    unfold x26_sees_j57
    refine gj_ladd C dX26_sees_57 ?_
    refine gj_nrmL ?_
    refine gx_pL (O := "BorrowedLives$Harms") (nm := "harm") (ds := "J") (fin := false) C E dX26_sees_58 (by decide +kernel) (Or.inl q1584) (fun _ h => h) (fun h => by cases h) (by decide +kernel) ?_
    exact gx_vret C hQ hr dX26_sees_61
  unfold x26_sees
  refine gx_aload_n C dX26_sees_0 0 rfl ?_
  refine gx_aload_n C dX26_sees_1 0 rfl ?_
  refine gx_gR (O := "BorrowedLives$Harms") (nm := "this$0") (ds := "LBorrowedLives;") (fin := true) C E dX26_sees_2 (by decide +kernel) (Or.inl q1586) (fun _ h => h) (fun v2 => ?_)
  refine gx_gR (O := "BorrowedLives") (nm := "trial") (ds := "LBorrowedLives$State;") (fin := true) C E dX26_sees_5 (by decide +kernel) (Or.inr ⟨_, q381⟩) (fun _ h => h) (fun v5 => ?_)
  refine gx_aload_n C dX26_sees_8 1 rfl ?_
  refine gx_aload_n C dX26_sees_9 0 rfl ?_
  refine gx_gI (O := "BorrowedLives$Harms") (nm := "sign") (ds := "I") (fin := true) C E dX26_sees_10 (by decide +kernel) (Or.inl q1583) (fun _ h => h) (fun v10 => ?_)
  refine gx_callHV (x := ⟨"BorrowedLives$Harms", "lives", "(LBorrowedLives$State;[II)V"⟩) (owner := "BorrowedLives$Looker") (t0 := 22) (As := [rv g v5, rv g a1, .int (iI v10)]) (rest := []) C E rfl dX26_sees_13 (mx22_lives (cx_l X) g a0 v5 a1 v10) q1411 q1412 q1414 q1415 q164 q1416 rfl hy9_X22_lives_X26 hR (Nat.le_of_ble_eq_true rfl) (by decide) rfl rfl (Nat.zero_le _) ?_
  refine gx_aload_n C dX26_sees_16 0 rfl ?_
  refine gx_dup C dX26_sees_17 ?_
  refine gx_gL (O := "BorrowedLives$Harms") (nm := "harm") (ds := "J") (fin := false) C E dX26_sees_18 (by decide +kernel) (Or.inl q1584) (fun _ h => h) (fun v18 => ?_)
  refine gx_aload_n C dX26_sees_21 0 rfl ?_
  refine gx_gI (O := "BorrowedLives$Harms") (nm := "life") (ds := "I") (fin := true) C E dX26_sees_22 (by decide +kernel) (Or.inl q1582) (fun _ h => h) (fun v22 => ?_)
  refine gj_if_ge (tgt := 42) C dX26_sees_25 (by decide) (fun h25 => gj_neg h25 ?_) (fun h25 => gj_pos h25 ?_)
  · refine gx_aload_n C dX26_sees_42 0 rfl ?_
    refine gx_gR (O := "BorrowedLives$Harms") (nm := "this$0") (ds := "LBorrowedLives;") (fin := true) C E dX26_sees_43 (by decide +kernel) (Or.inl q1586) (fun _ h => h) (fun v43 => ?_)
    refine gx_gR (O := "BorrowedLives") (nm := "week") (ds := "LBorrowedLives$State;") (fin := true) C E dX26_sees_46 (by decide +kernel) (Or.inr ⟨_, q384⟩) (fun _ h => h) (fun v46 => ?_)
    refine gx_aload_n C dX26_sees_49 0 rfl ?_
    refine gx_gI (O := "BorrowedLives$Harms") (nm := "life") (ds := "I") (fin := true) C E dX26_sees_50 (by decide +kernel) (Or.inl q1582) (fun _ h => h) (fun v50 => ?_)
    refine gx_callVI (t0 := 4) (As := [.int (iI v50)]) (rest := [.long (iL v18), rv g a0]) C E rfl dX26_sees_53 (mx4_harmOf (cx_l X) g v46 v50) (lw_V q1425 q1229 q1230 q131 q1231) hyx_X4_harmOf rfl hR (Nat.le_of_ble_eq_true rfl) (by decide) rfl rfl (by simp only [List.map_cons, List.map_nil, List.sum_cons, List.sum_nil, rv_cat, cat_int, cat_long]; decide) (fun v53 => ?_)
    refine gj_i2l C dX26_sees_56 ?_
    exact gj_to [] (J57 a0 v18 (zi2l v53)) rfl
  · refine gx_aload_n C dX26_sees_28 0 rfl ?_
    refine gx_gR (O := "BorrowedLives$Harms") (nm := "this$0") (ds := "LBorrowedLives;") (fin := true) C E dX26_sees_29 (by decide +kernel) (Or.inl q1586) (fun _ h => h) (fun v29 => ?_)
    refine gx_gR (O := "BorrowedLives") (nm := "week") (ds := "LBorrowedLives$State;") (fin := true) C E dX26_sees_32 (by decide +kernel) (Or.inr ⟨_, q384⟩) (fun _ h => h) (fun v32 => ?_)
    refine gx_callVI (t0 := 4) (As := []) (rest := [.long (iL v18), rv g a0]) C E rfl dX26_sees_35 (mx4_harmOfAll (cx_l X) g v32) (lw_V q1420 q1421 q1422 q131 q1423) hyx_X4_harmOfAll rfl hR (Nat.le_of_ble_eq_true rfl) (by decide) rfl rfl (by simp only [List.map_cons, List.map_nil, List.sum_cons, List.sum_nil, rv_cat, cat_int, cat_long]; decide) (fun v35 => ?_)
    refine gj_i2l C dX26_sees_38 ?_
    refine gj_goto (tgt := 57) C dX26_sees_39 (by decide) ?_
    exact gj_to [] (J57 a0 v18 (zi2l v35)) rfl
def x1_fits_b66 (a0 : Option Nat) (a2 : Int) (bk66 : (Int) → PT Hp Int) : PT Hp Int :=
  pbnd (xgI a0 1 19) fun v68 =>
  pite (w32 a2 < w32 v68) (
    pbnd (xgR a0 1 20) fun v75 =>
    pbnd (xgR a0 1 17) fun v79 =>
    pbnd (xld v79 40 a2) fun v83 =>
    pbnd (xldR v75 47 v83) fun v84 =>
    pbnd (xgR a0 1 16) fun v86 =>
    pbnd (xld v86 40 a2) fun v90 =>
    pbnd (xld v84 40 v90) fun v91 =>
    pbnd (xgR a0 1 18) fun v93 =>
    pbnd (xld v93 40 a2) fun v97 =>
    pite (w32 v91 = w32 v97) (
      bk66 (a2 + 1)) (
      pbnd (pzo 0) fun _ => pret 0)) (
    pbnd (pzo 1) fun _ => pret 1)
def x1_fits_l66 (a0 : Option Nat) (a2 : Int) : PT Hp Int :=
  ploop (fun (s : (Int)) bk66 => x1_fits_b66 a0 s bk66) (a2)
def x1_fits_b21 (a0 : Option Nat) (a2 : Int) (bk21 : (Int) → PT Hp Int) : PT Hp Int :=
  pite (7 < w32 a2) (
    x1_fits_l66 a0 0) (
    pbnd (xgR a0 1 6) fun v29 =>
    pbnd (xgR a0 1 2) fun v33 =>
    pbnd (xrecv v33 3) fun _ =>
    pbnd (x3_sign v33) fun v36 =>
    pbnd (xrecv a0 1) fun _ =>
    pbnd (x1_passes a0 v29 v36) fun _ =>
    pbnd (xgR a0 1 6) fun v43 =>
    pbnd (xgR v43 4 0) fun v46 =>
    pbnd (xgR a0 1 20) fun v50 =>
    pbnd (xldR v50 47 a2) fun v54 =>
    pbnd (x1_copies v46 v54) fun _ =>
    bk21 (a2 + 1))
def x1_fits_l21 (a0 : Option Nat) (a2 : Int) : PT Hp Int :=
  ploop (fun (s : (Int)) bk21 => x1_fits_b21 a0 s bk21) (a2)
def x1_fits (a0 a1 : Option Nat) : PT Hp Int :=
  pbnd (xgR a0 1 6) fun v1 =>
  pbnd (xgR a0 1 4) fun v5 =>
  pbnd (xrecv v1 4) fun _ =>
  pbnd (x4_be v1 v5) fun _ =>
  pbnd (xgR a0 1 6) fun v12 =>
  pbnd (xrecv v12 4) fun _ =>
  pbnd (x4_goes v12 a1) fun _ =>
  x1_fits_l21 a0 1
set_option maxHeartbeats 4000000 in
set_option maxRecDepth 100000 in
theorem mx1_fits (l : Launch) (g : XG) (a0 a1 : Option Nat) : XMet l g yX1_fits cX1_fits 3 (Option.some Jvm.ClassFile.FieldType.boolean) (704) [rv g a0, rv g a1] (x1_fits a0 a1) rvI := by
  refine gx_start (by decide +kernel) (by have e := lg_sl_len [rv g a0, rv g a1]; simp only [List.map_cons, List.map_nil, List.sum_cons, List.sum_nil, rv_cat, cat_int, cat_long] at e; omega) (fun X Q σ0 hl C E hQ hR hr hnm => ?_)
  subst hl
  rw [show lv_args 0 [rv g a0, rv g a1] = [(0, rv g a0), (1, rv g a1)] from by simp [lv_args, rv_cat, cat_int, cat_long]]
  show GJ X 3 (xWo g σ0 (cx_s X).heap) Q (x1_fits a0 a1) 0 [(0, rv g a0), (1, rv g a1)] []
  have J66 : ∀ (a0 : Option Nat) (a2 : Int), GJ X 3 (xWo g σ0 (cx_s X).heap) Q (x1_fits_l66 a0 a2) 66 [(0, rv g a0), (2, .int (iI a2))] [] := by
    intro a0 a2
    unfold x1_fits_l66
    refine gj_loop (fun (s : (Int)) => [(0, rv g a0), (2, .int (iI s))]) (a2) (fun bk66 hb66 s => ?_)
    obtain ⟨a2, rfl⟩ : ∃ z, z = s := ⟨s, rfl⟩
    show GJ X 3 (xWo g σ0 (cx_s X).heap) Q (x1_fits_b66 a0 a2 bk66) 66 [(0, rv g a0), (2, .int (iI a2))] []
    unfold x1_fits_b66
    refine gj_iload_n C dX1_fits_66 1 rfl ?_
    refine gx_aload_n C dX1_fits_67 0 rfl ?_
    refine gx_gI (O := "BorrowedLives") (nm := "tales") (ds := "I") (fin := false) C E dX1_fits_68 (by decide +kernel) (Or.inl q400) (fun _ h => h) (fun v68 => ?_)
    refine gj_icmp_ge (tgt := 109) C dX1_fits_71 (by decide) rfl rfl (fun h71 => gj_neg h71 ?_) (fun h71 => gj_pos h71 ?_)
    · refine gj_iconst C dX1_fits_109 ?_
      exact gx_zret C hQ hr dX1_fits_110
    · refine gx_aload_n C dX1_fits_74 0 rfl ?_
      refine gx_gR (O := "BorrowedLives") (nm := "held") (ds := "[[I") (fin := true) C E dX1_fits_75 (by decide +kernel) (Or.inl q402) (fun _ h => h) (fun v75 => ?_)
      refine gx_aload_n C dX1_fits_78 0 rfl ?_
      refine gx_gR (O := "BorrowedLives") (nm := "taleDay") (ds := "[I") (fin := true) C E dX1_fits_79 (by decide +kernel) (Or.inl q398) (fun _ h => h) (fun v79 => ?_)
      refine gj_iload_n C dX1_fits_82 1 rfl ?_
      refine gx_iald C E dX1_fits_83 (fun v83 => ?_)
      refine gx_aald (t0 := 7) C E dX1_fits_84 (by decide) (by decide) rfl rfl (fun v84 => ?_)
      refine gx_aload_n C dX1_fits_85 0 rfl ?_
      refine gx_gR (O := "BorrowedLives") (nm := "taleLife") (ds := "[I") (fin := true) C E dX1_fits_86 (by decide +kernel) (Or.inl q397) (fun _ h => h) (fun v86 => ?_)
      refine gj_iload_n C dX1_fits_89 1 rfl ?_
      refine gx_iald C E dX1_fits_90 (fun v90 => ?_)
      refine gx_iald C E dX1_fits_91 (fun v91 => ?_)
      refine gx_aload_n C dX1_fits_92 0 rfl ?_
      refine gx_gR (O := "BorrowedLives") (nm := "talePurse") (ds := "[I") (fin := true) C E dX1_fits_93 (by decide +kernel) (Or.inl q399) (fun _ h => h) (fun v93 => ?_)
      refine gj_iload_n C dX1_fits_96 1 rfl ?_
      refine gx_iald C E dX1_fits_97 (fun v97 => ?_)
      refine gj_icmp_eq (tgt := 103) C dX1_fits_98 (by decide) rfl rfl (fun h98 => gj_pos h98 ?_) (fun h98 => gj_neg h98 ?_)
      · refine gj_iinc (L' := [(2, _), (0, _)]) C dX1_fits_103 1 rfl (by decide) rfl ?_
        refine gj_goto (tgt := 66) C dX1_fits_106 (by decide) ?_
        exact gj_to [1, 0] (hb66 (a2 + 1)) rfl
      · refine gj_iconst C dX1_fits_101 ?_
        exact gx_zret C hQ hr dX1_fits_102
  have J21 : ∀ (a0 : Option Nat) (a2 : Int), GJ X 3 (xWo g σ0 (cx_s X).heap) Q (x1_fits_l21 a0 a2) 21 [(0, rv g a0), (2, .int (iI a2))] [] := by
    intro a0 a2
    unfold x1_fits_l21
    refine gj_loop (fun (s : (Int)) => [(0, rv g a0), (2, .int (iI s))]) (a2) (fun bk21 hb21 s => ?_)
    obtain ⟨a2, rfl⟩ : ∃ z, z = s := ⟨s, rfl⟩
    show GJ X 3 (xWo g σ0 (cx_s X).heap) Q (x1_fits_b21 a0 a2 bk21) 21 [(0, rv g a0), (2, .int (iI a2))] []
    unfold x1_fits_b21
    refine gj_iload_n C dX1_fits_21 1 rfl ?_
    refine gj_bipush C dX1_fits_22 rfl ?_
    refine gj_icmp_gt (tgt := 64) (b' := 7) C dX1_fits_24 (by decide) rfl (by decide) (fun h24 => gj_pos h24 ?_) (fun h24 => gj_neg h24 ?_)
    · refine gj_iconst C dX1_fits_64 ?_
      refine gj_istore_n (L' := [(2, _), (0, _)]) C dX1_fits_65 (by decide) rfl ?_
      exact gj_to [1, 0] (J66 a0 0) rfl
    · refine gx_aload_n C dX1_fits_27 0 rfl ?_
      refine gx_aload_n C dX1_fits_28 0 rfl ?_
      refine gx_gR (O := "BorrowedLives") (nm := "week") (ds := "LBorrowedLives$State;") (fin := true) C E dX1_fits_29 (by decide +kernel) (Or.inl q386) (fun _ h => h) (fun v29 => ?_)
      refine gx_aload_n C dX1_fits_32 0 rfl ?_
      refine gx_gR (O := "BorrowedLives") (nm := "town") (ds := "LBorrowedLives$Town;") (fin := false) C E dX1_fits_33 (by decide +kernel) (Or.inl q377) (fun _ h => h) (fun v33 => ?_)
      refine gx_callVI (t0 := 3) (As := []) (rest := [rv g v29, rv g a0]) C E rfl dX1_fits_36 (mx3_sign (cx_l X) g v33) (lw_V q1317 q1318 q1319 q127 q1320) hyx_X3_sign rfl hR (Nat.le_of_ble_eq_true rfl) (by decide) rfl rfl (by simp only [List.map_cons, List.map_nil, List.sum_cons, List.sum_nil, rv_cat, cat_int, cat_long]; decide) (fun v36 => ?_)
      refine gx_callVV (t0 := 1) (As := [rv g v29, .int (iI v36)]) (rest := []) C E rfl dX1_fits_39 (mx1_passes (cx_l X) g a0 v29 v36) (lw_V q1321 q1323 qs35 q125 q1324) hyx_X1_passes rfl hR (Nat.le_of_ble_eq_true rfl) (by decide) rfl rfl (Nat.zero_le _) ?_
      refine gx_aload_n C dX1_fits_42 0 rfl ?_
      refine gx_gR (O := "BorrowedLives") (nm := "week") (ds := "LBorrowedLives$State;") (fin := true) C E dX1_fits_43 (by decide +kernel) (Or.inl q386) (fun _ h => h) (fun v43 => ?_)
      refine gx_gR (O := "BorrowedLives$State") (nm := "purse") (ds := "[I") (fin := true) C E dX1_fits_46 (by decide +kernel) (Or.inr ⟨_, q292⟩) (fun _ h => h) (fun v46 => ?_)
      refine gx_aload_n C dX1_fits_49 0 rfl ?_
      refine gx_gR (O := "BorrowedLives") (nm := "held") (ds := "[[I") (fin := true) C E dX1_fits_50 (by decide +kernel) (Or.inl q402) (fun _ h => h) (fun v50 => ?_)
      refine gj_iload_n C dX1_fits_53 1 rfl ?_
      refine gx_aald (t0 := 7) C E dX1_fits_54 (by decide) (by decide) rfl rfl (fun v54 => ?_)
      refine gx_callSV (As := [rv g v46, rv g v54]) (rest := []) C E dX1_fits_55 (mx1_copies (cx_l X) g v46 v54) (lw_S q1398 q1311 q125 q1312) hyx_X1_copies hR (Nat.le_of_ble_eq_true rfl) (by decide) rfl rfl (Nat.zero_le _) ?_
      refine gj_iinc (L' := [(2, _), (0, _)]) C dX1_fits_58 1 rfl (by decide) rfl ?_
      refine gj_goto (tgt := 21) C dX1_fits_61 (by decide) ?_
      exact gj_to [1, 0] (hb21 (a2 + 1)) rfl
  unfold x1_fits
  refine gx_aload_n C dX1_fits_0 0 rfl ?_
  refine gx_gR (O := "BorrowedLives") (nm := "week") (ds := "LBorrowedLives$State;") (fin := true) C E dX1_fits_1 (by decide +kernel) (Or.inl q386) (fun _ h => h) (fun v1 => ?_)
  refine gx_aload_n C dX1_fits_4 0 rfl ?_
  refine gx_gR (O := "BorrowedLives") (nm := "state") (ds := "LBorrowedLives$State;") (fin := true) C E dX1_fits_5 (by decide +kernel) (Or.inl q380) (fun _ h => h) (fun v5 => ?_)
  refine gx_callVV (t0 := 4) (As := [rv g v5]) (rest := []) C E rfl dX1_fits_8 (mx4_be (cx_l X) g v1 v5) (lw_V q1306 q1307 q1308 q131 q1309) hyx_X4_be rfl hR (Nat.le_of_ble_eq_true rfl) (by decide) rfl rfl (Nat.zero_le _) ?_
  refine gx_aload_n C dX1_fits_11 0 rfl ?_
  refine gx_gR (O := "BorrowedLives") (nm := "week") (ds := "LBorrowedLives$State;") (fin := true) C E dX1_fits_12 (by decide +kernel) (Or.inl q386) (fun _ h => h) (fun v12 => ?_)
  refine gx_aload_n C dX1_fits_15 1 rfl ?_
  refine gx_callVV (t0 := 4) (As := [rv g a1]) (rest := []) C E rfl dX1_fits_16 (mx4_goes (cx_l X) g v12 a1) (lw_V q1313 q1314 q1315 q131 q1316) hyx_X4_goes rfl hR (Nat.le_of_ble_eq_true rfl) (by decide) rfl rfl (Nat.zero_le _) ?_
  refine gj_iconst C dX1_fits_19 ?_
  refine gj_istore_n (L' := [(2, .int (iI 1)), (0, rv g a0), (1, rv g a1)]) C dX1_fits_20 (by decide) (by simp [List.filter, rv_cat, cat_int, cat_long, fin4_3]) ?_
  exact gj_to [1, 0] (J21 a0 1) rfl
def x27_sees_b24 (a0 a1 : Option Nat) (a2 : Int) (bk24 : (Int) → PT Hp Unit) : PT Hp Unit :=
  pbnd (xgR a0 23 4) fun v26 =>
  pbnd (xrecv v26 1) fun _ =>
  pbnd (x1_people v26) fun v29 =>
  pite (w32 a2 < w32 v29) (
    pbnd (xgR a0 23 2) fun v36 =>
    pbnd (xld v36 40 a2) fun v41 =>
    pbnd (xld a1 40 a2) fun v45 =>
    pbnd (xst v36 40 a2 (zor v41 (zshl 1 v45))) fun _ =>
    bk24 (a2 + 1)) (
    pret ())
def x27_sees_l24 (a0 a1 : Option Nat) (a2 : Int) : PT Hp Unit :=
  ploop (fun (s : (Int)) bk24 => x27_sees_b24 a0 a1 s bk24) (a2)
def x27_sees (a0 a1 : Option Nat) : PT Hp Unit :=
  pbnd (xgR a0 23 4) fun v1 =>
  pbnd (xrecv v1 1) fun _ =>
  pbnd (x1_fits v1 a1) fun v5 =>
  pite (w32 v5 = 0) (
    pret ()) (
    pbnd (xgI a0 23 3) fun v14 =>
    pbnd (xpI a0 23 3 (w32 (v14 + 1))) fun _ =>
    x27_sees_l24 a0 a1 0)
set_option maxHeartbeats 4000000 in
set_option maxRecDepth 100000 in
theorem mx27_sees (l : Launch) (g : XG) (a0 a1 : Option Nat) : XMet l g yX27_sees cX27_sees 3 (Option.none : Option Jvm.ClassFile.FieldType) (705) [rv g a0, rv g a1] (x27_sees a0 a1) rvV := by
  refine gx_start (by decide +kernel) (by have e := lg_sl_len [rv g a0, rv g a1]; simp only [List.map_cons, List.map_nil, List.sum_cons, List.sum_nil, rv_cat, cat_int, cat_long] at e; omega) (fun X Q σ0 hl C E hQ hR hr hnm => ?_)
  subst hl
  rw [show lv_args 0 [rv g a0, rv g a1] = [(0, rv g a0), (1, rv g a1)] from by simp [lv_args, rv_cat, cat_int, cat_long]]
  show GJ X 3 (xWo g σ0 (cx_s X).heap) Q (x27_sees a0 a1) 0 [(0, rv g a0), (1, rv g a1)] []
  have J24 : ∀ (a0 a1 : Option Nat) (a2 : Int), GJ X 3 (xWo g σ0 (cx_s X).heap) Q (x27_sees_l24 a0 a1 a2) 24 [(0, rv g a0), (1, rv g a1), (2, .int (iI a2))] [] := by
    intro a0 a1 a2
    unfold x27_sees_l24
    refine gj_loop (fun (s : (Int)) => [(0, rv g a0), (1, rv g a1), (2, .int (iI s))]) (a2) (fun bk24 hb24 s => ?_)
    obtain ⟨a2, rfl⟩ : ∃ z, z = s := ⟨s, rfl⟩
    show GJ X 3 (xWo g σ0 (cx_s X).heap) Q (x27_sees_b24 a0 a1 a2 bk24) 24 [(0, rv g a0), (1, rv g a1), (2, .int (iI a2))] []
    unfold x27_sees_b24
    refine gj_iload_n C dX27_sees_24 2 rfl ?_
    refine gx_aload_n C dX27_sees_25 0 rfl ?_
    refine gx_gR (O := "BorrowedLives$Fits") (nm := "this$0") (ds := "LBorrowedLives;") (fin := true) C E dX27_sees_26 (by decide +kernel) (Or.inl q1637) (fun _ h => h) (fun v26 => ?_)
    refine gx_callVNI (t0 := 1) (As := []) (rest := [.int (iI a2)]) C E rfl dX27_sees_29 (mx1_people (cx_l X) g v26) (lw_meth q1195) q125 q1407 q1194 qs29 hyx_X1_people rfl hR (Nat.le_of_ble_eq_true rfl) (by decide) rfl rfl (Nat.le_of_ble_eq_true rfl) (fun v29 => ?_)
    refine gj_icmp_ge (tgt := 55) C dX27_sees_32 (by decide) rfl rfl (fun h32 => gj_neg h32 ?_) (fun h32 => gj_pos h32 ?_)
    · exact gx_vret C hQ hr dX27_sees_55
    · refine gx_aload_n C dX27_sees_35 0 rfl ?_
      refine gx_gR (O := "BorrowedLives$Fits") (nm := "selves") (ds := "[I") (fin := true) C E dX27_sees_36 (by decide +kernel) (Or.inl q1633) (fun _ h => h) (fun v36 => ?_)
      refine gj_iload_n C dX27_sees_39 2 rfl ?_
      refine gj_dup2 C dX27_sees_40 rfl (rv_cat _ _) ?_
      refine gx_iald C E dX27_sees_41 (fun v41 => ?_)
      refine gj_iconst C dX27_sees_42 ?_
      refine gx_aload_n C dX27_sees_43 1 rfl ?_
      refine gj_iload_n C dX27_sees_44 2 rfl ?_
      refine gx_iald C E dX27_sees_45 (fun v45 => ?_)
      refine gj_ishl C dX27_sees_46 ?_
      refine gj_ior C dX27_sees_47 ?_
      refine gx_iast C E dX27_sees_48 ?_
      refine gj_iinc (L' := [(2, .int (iI ((a2 + 1)))), (0, rv g a0), (1, rv g a1)]) C dX27_sees_49 2 rfl (by decide) (by simp [List.filter, rv_cat, cat_int, cat_long, fin4_3]) ?_
      refine gj_goto (tgt := 24) C dX27_sees_52 (by decide) ?_
      exact gj_to [1, 2, 0] (hb24 (a2 + 1)) rfl
  unfold x27_sees
  refine gx_aload_n C dX27_sees_0 0 rfl ?_
  refine gx_gR (O := "BorrowedLives$Fits") (nm := "this$0") (ds := "LBorrowedLives;") (fin := true) C E dX27_sees_1 (by decide +kernel) (Or.inl q1637) (fun _ h => h) (fun v1 => ?_)
  refine gx_aload_n C dX27_sees_4 1 rfl ?_
  refine gx_callVNI (t0 := 1) (As := [rv g a1]) (rest := []) C E rfl dX27_sees_5 (mx1_fits (cx_l X) g v1 a1) (lw_meth q1305) q125 q1406 q1304 qs34 hyx_X1_fits rfl hR (Nat.le_of_ble_eq_true rfl) (by decide) rfl rfl (Nat.zero_le _) (fun v5 => ?_)
  refine gj_if_ne (tgt := 12) C dX27_sees_8 (by decide) (fun h8 => gj_neg h8 ?_) (fun h8 => gj_pos h8 ?_)
  · refine gx_aload_n C dX27_sees_12 0 rfl ?_
    refine gx_dup C dX27_sees_13 ?_
    refine gx_gI (O := "BorrowedLives$Fits") (nm := "many") (ds := "I") (fin := false) C E dX27_sees_14 (by decide +kernel) (Or.inl q1635) (fun _ h => h) (fun v14 => ?_)
    refine gj_iconst C dX27_sees_17 ?_
    refine gj_iadd C dX27_sees_18 ?_
    refine gj_nrmI ?_
    refine gx_pI (O := "BorrowedLives$Fits") (nm := "many") (ds := "I") (fin := false) (ty := .int) C E dX27_sees_19 (by decide +kernel) (Or.inl q1635) (fun _ h => h) (fun h => by cases h) (by decide +kernel) (inty_int _) ?_
    refine gj_iconst C dX27_sees_22 ?_
    refine gj_istore_n (L' := [(2, .int (iI 0)), (0, rv g a0), (1, rv g a1)]) C dX27_sees_23 (by decide) (by simp [List.filter, rv_cat, cat_int, cat_long, fin4_3]) ?_
    exact gj_to [1, 2, 0] (J24 a0 a1 0) rfl
  · exact gx_vret C hQ hr dX27_sees_11
def x28_sees (a0 a1 : Option Nat) : PT Hp Unit :=
  pbnd (xgR a0 24 5) fun v1 =>
  pbnd (xrecv v1 1) fun _ =>
  pbnd (x1_fits v1 a1) fun v5 =>
  pite (w32 v5 = 0) (
    pret ()) (
    pbnd (xgI a0 24 4) fun v13 =>
    pbnd (xgR a0 24 5) fun v17 =>
    pbnd (xgR v17 1 21) fun v20 =>
    pbnd (xgR a0 24 5) fun v24 =>
    pbnd (xgR v24 1 20) fun v27 =>
    pbnd (xgI a0 24 3) fun v31 =>
    pbnd (xldR v27 47 v31) fun v34 =>
    pbnd (xgI a0 24 2) fun v36 =>
    pbnd (xld v34 40 v36) fun v39 =>
    pbnd (xld v20 40 v39) fun v41 =>
    pbnd (xst v20 40 v39 (w32 (v41 + 1))) fun _ =>
    pbnd (xpI a0 24 4 (w32 (zmax v13 ((v41 + 1))))) fun _ =>
    pret ())
set_option maxHeartbeats 4000000 in
set_option maxRecDepth 100000 in
theorem mx28_sees (l : Launch) (g : XG) (a0 a1 : Option Nat) : XMet l g yX28_sees cX28_sees 2 (Option.none : Option Jvm.ClassFile.FieldType) (705) [rv g a0, rv g a1] (x28_sees a0 a1) rvV := by
  refine gx_start (by decide +kernel) (by have e := lg_sl_len [rv g a0, rv g a1]; simp only [List.map_cons, List.map_nil, List.sum_cons, List.sum_nil, rv_cat, cat_int, cat_long] at e; omega) (fun X Q σ0 hl C E hQ hR hr hnm => ?_)
  subst hl
  rw [show lv_args 0 [rv g a0, rv g a1] = [(0, rv g a0), (1, rv g a1)] from by simp [lv_args, rv_cat, cat_int, cat_long]]
  show GJ X 2 (xWo g σ0 (cx_s X).heap) Q (x28_sees a0 a1) 0 [(0, rv g a0), (1, rv g a1)] []
  unfold x28_sees
  refine gx_aload_n C dX28_sees_0 0 rfl ?_
  refine gx_gR (O := "BorrowedLives$Alike") (nm := "this$0") (ds := "LBorrowedLives;") (fin := true) C E dX28_sees_1 (by decide +kernel) (Or.inl q1676) (fun _ h => h) (fun v1 => ?_)
  refine gx_aload_n C dX28_sees_4 1 rfl ?_
  refine gx_callVNI (t0 := 1) (As := [rv g a1]) (rest := []) C E rfl dX28_sees_5 (mx1_fits (cx_l X) g v1 a1) (lw_meth q1305) q125 q1302 q1304 qs34 hyx_X1_fits rfl hR (Nat.le_of_ble_eq_true rfl) (by decide) rfl rfl (Nat.zero_le _) (fun v5 => ?_)
  refine gj_if_eq (tgt := 52) C dX28_sees_8 (by decide) (fun h8 => gj_pos h8 ?_) (fun h8 => gj_neg h8 ?_)
  · exact gx_vret C hQ hr dX28_sees_52
  · refine gx_aload_n C dX28_sees_11 0 rfl ?_
    refine gx_aload_n C dX28_sees_12 0 rfl ?_
    refine gx_gI (O := "BorrowedLives$Alike") (nm := "most") (ds := "I") (fin := false) C E dX28_sees_13 (by decide +kernel) (Or.inl q1674) (fun _ h => h) (fun v13 => ?_)
    refine gx_aload_n C dX28_sees_16 0 rfl ?_
    refine gx_gR (O := "BorrowedLives$Alike") (nm := "this$0") (ds := "LBorrowedLives;") (fin := true) C E dX28_sees_17 (by decide +kernel) (Or.inl q1676) (fun _ h => h) (fun v17 => ?_)
    refine gx_gR (O := "BorrowedLives") (nm := "like") (ds := "[I") (fin := true) C E dX28_sees_20 (by decide +kernel) (Or.inr ⟨_, q403⟩) (fun _ h => h) (fun v20 => ?_)
    refine gx_aload_n C dX28_sees_23 0 rfl ?_
    refine gx_gR (O := "BorrowedLives$Alike") (nm := "this$0") (ds := "LBorrowedLives;") (fin := true) C E dX28_sees_24 (by decide +kernel) (Or.inl q1676) (fun _ h => h) (fun v24 => ?_)
    refine gx_gR (O := "BorrowedLives") (nm := "held") (ds := "[[I") (fin := true) C E dX28_sees_27 (by decide +kernel) (Or.inr ⟨_, q401⟩) (fun _ h => h) (fun v27 => ?_)
    refine gx_aload_n C dX28_sees_30 0 rfl ?_
    refine gx_gI (O := "BorrowedLives$Alike") (nm := "day") (ds := "I") (fin := true) C E dX28_sees_31 (by decide +kernel) (Or.inl q1673) (fun _ h => h) (fun v31 => ?_)
    refine gx_aald (t0 := 7) C E dX28_sees_34 (by decide) (by decide) rfl rfl (fun v34 => ?_)
    refine gx_aload_n C dX28_sees_35 0 rfl ?_
    refine gx_gI (O := "BorrowedLives$Alike") (nm := "life") (ds := "I") (fin := true) C E dX28_sees_36 (by decide +kernel) (Or.inl q1672) (fun _ h => h) (fun v36 => ?_)
    refine gx_iald C E dX28_sees_39 (fun v39 => ?_)
    refine gj_dup2 C dX28_sees_40 rfl (rv_cat _ _) ?_
    refine gx_iald C E dX28_sees_41 (fun v41 => ?_)
    refine gj_iconst C dX28_sees_42 ?_
    refine gj_iadd C dX28_sees_43 ?_
    refine gj_dup_x2 C dX28_sees_44 rfl rfl (rv_cat _ _) ?_
    refine gj_nrmI ?_
    refine gx_iast C E dX28_sees_45 ?_
    refine gx_max C E dX28_sees_46 q1399 q514 q137 q515 hR (Nat.le_of_ble_eq_true rfl) (by simp only [List.map_cons, List.map_nil, List.sum_cons, List.sum_nil, rv_cat, cat_int, cat_long]; decide) ?_
    refine gj_nrmI ?_
    refine gx_pI (O := "BorrowedLives$Alike") (nm := "most") (ds := "I") (fin := false) (ty := .int) C E dX28_sees_49 (by decide +kernel) (Or.inl q1674) (fun _ h => h) (fun h => by cases h) (by decide +kernel) (inty_int _) ?_
    exact gx_vret C hQ hr dX28_sees_52
def x1_gives_s_j91 (self : Option Nat → Option Nat → Int → Int → PT Hp Unit) (a0 a1 : Option Nat) (a2 a3 a4 : Int) (bk38 : (Int) → PT Hp Unit) : PT Hp Unit :=
  bk38 (a4 + 1)
def x1_gives_s_b38 (self : Option Nat → Option Nat → Int → Int → PT Hp Unit) (a0 a1 : Option Nat) (a2 a3 : Int) (a4 : Int) (bk38 : (Int) → PT Hp Unit) : PT Hp Unit :=
  pbnd (xrecv a0 1) fun _ =>
  pbnd (x1_people a0) fun v41 =>
  pite (w32 a4 < w32 v41) (
    pbnd (x1_isIn a3 a4) fun v50 =>
    pite (w32 v50 = 0) (
      pbnd (xrecv a0 1) fun _ =>
      pbnd (x1_mayBe a0 a4 a2) fun v60 =>
      pite (w32 v60 = 0) (
        x1_gives_s_j91 self a0 a1 a2 a3 a4 bk38) (
        pbnd (xgR a0 1 9) fun v70 =>
        pbnd (xst v70 40 a2 (w32 a4)) fun _ =>
        pbnd (xrecv a0 1) fun _ =>
        pbnd (self a0 a1 (a2 + 1) (zor a3 (zshl 1 a4))) fun _ =>
        x1_gives_s_j91 self a0 a1 a2 a3 a4 bk38)) (
      x1_gives_s_j91 self a0 a1 a2 a3 a4 bk38)) (
    pret ())
def x1_gives_s_l38 (self : Option Nat → Option Nat → Int → Int → PT Hp Unit) (a0 a1 : Option Nat) (a2 a3 a4 : Int) : PT Hp Unit :=
  ploop (fun (s : (Int)) bk38 => x1_gives_s_b38 self a0 a1 a2 a3 s bk38) (a4)
def x1_gives_s (self : Option Nat → Option Nat → Int → Int → PT Hp Unit) (a0 a1 : Option Nat) (a2 a3 : Int) : PT Hp Unit :=
  pbnd (xrecv a0 1) fun _ =>
  pbnd (x1_people a0) fun v2 =>
  pite (w32 a2 = w32 v2) (
    pbnd (xrecv a0 1) fun _ =>
    pbnd (x1_people a0) fun v9 =>
    pite (w32 v9 = 0) (
      pret ()) (
      pbnd (xgIs a1 [19, 20, 21, 22, 23, 24] 0) fun v18 =>
      pbnd (xpIs a1 [19, 20, 21, 22, 23, 24] 0 (w32 (v18 + 1))) fun _ =>
      pbnd (xgR a0 1 9) fun v28 =>
      pbnd (xdisp a1 [(19, x23_sees a1 v28), (20, x24_sees a1 v28), (21, x25_sees a1 v28), (22, x26_sees a1 v28), (23, x27_sees a1 v28), (24, x28_sees a1 v28)]) fun _ =>
      pret ())) (
    x1_gives_s_l38 self a0 a1 a2 a3 0)
set_option maxHeartbeats 4000000 in
set_option maxRecDepth 100000 in
theorem mx1_gives_s (l : Launch) (g : XG) {kS : Nat} (hkS : 706 ≤ kS) {self : Option Nat → Option Nat → Int → Int → PT Hp Unit} (hS : ∀ (a0 a1 : Option Nat) (a2 a3 : Int), XMet l g yX1_gives cX1_gives 5 (Option.none : Option Jvm.ClassFile.FieldType) (kS) [rv g a0, rv g a1, .int (iI a2), .int (iI a3)] (self a0 a1 a2 a3) rvV) (a0 a1 : Option Nat) (a2 a3 : Int) : XMet l g yX1_gives cX1_gives 5 (Option.none : Option Jvm.ClassFile.FieldType) (kS + 1) [rv g a0, rv g a1, .int (iI a2), .int (iI a3)] (x1_gives_s self a0 a1 a2 a3) rvV := by
  refine gx_start (by decide +kernel) (by have e := lg_sl_len [rv g a0, rv g a1, .int (iI a2), .int (iI a3)]; simp only [List.map_cons, List.map_nil, List.sum_cons, List.sum_nil, rv_cat, cat_int, cat_long] at e; omega) (fun X Q σ0 hl C E hQ hR hr hnm => ?_)
  subst hl
  rw [show lv_args 0 [rv g a0, rv g a1, .int (iI a2), .int (iI a3)] = [(0, rv g a0), (1, rv g a1), (2, .int (iI a2)), (3, .int (iI a3))] from by simp [lv_args, rv_cat, cat_int, cat_long]]
  show GJ X 5 (xWo g σ0 (cx_s X).heap) Q (x1_gives_s self a0 a1 a2 a3) 0 [(0, rv g a0), (1, rv g a1), (2, .int (iI a2)), (3, .int (iI a3))] []
  have J38 : ∀ (a0 a1 : Option Nat) (a2 a3 a4 : Int), GJ X 5 (xWo g σ0 (cx_s X).heap) Q (x1_gives_s_l38 self a0 a1 a2 a3 a4) 38 [(0, rv g a0), (1, rv g a1), (2, .int (iI a2)), (3, .int (iI a3)), (4, .int (iI a4))] [] := by
    intro a0 a1 a2 a3 a4
    unfold x1_gives_s_l38
    refine gj_loop (fun (s : (Int)) => [(0, rv g a0), (1, rv g a1), (2, .int (iI a2)), (3, .int (iI a3)), (4, .int (iI s))]) (a4) (fun bk38 hb38 s => ?_)
    obtain ⟨a4, rfl⟩ : ∃ z, z = s := ⟨s, rfl⟩
    show GJ X 5 (xWo g σ0 (cx_s X).heap) Q (x1_gives_s_b38 self a0 a1 a2 a3 a4 bk38) 38 [(0, rv g a0), (1, rv g a1), (2, .int (iI a2)), (3, .int (iI a3)), (4, .int (iI a4))] []
    have J91 : ∀ (a4 : Int), GJ X 5 (xWo g σ0 (cx_s X).heap) Q (x1_gives_s_j91 self a0 a1 a2 a3 a4 bk38) 91 [(0, rv g a0), (1, rv g a1), (2, .int (iI a2)), (3, .int (iI a3)), (4, .int (iI a4))] [] := by
      intro a4
      unfold x1_gives_s_j91
      refine gj_iinc (L' := [(4, _), (0, _), (1, _), (2, _), (3, _)]) C dX1_gives_91 4 rfl (by decide) rfl ?_
      refine gj_goto (tgt := 38) C dX1_gives_94 (by decide) ?_
      exact gj_to [1, 2, 3, 4, 0] (hb38 (a4 + 1)) rfl
    unfold x1_gives_s_b38
    refine gj_iload C dX1_gives_38 4 rfl ?_
    refine gx_aload_n C dX1_gives_40 0 rfl ?_
    refine gx_callVI (t0 := 1) (As := []) (rest := [.int (iI a4)]) C E rfl dX1_gives_41 (mx1_people (cx_l X) g a0) (lw_V q1192 q1194 qs29 q125 q1195) hyx_X1_people rfl hR (by omega) (by decide) rfl rfl (Nat.le_of_ble_eq_true rfl) (fun v41 => ?_)
    refine gj_icmp_ge (tgt := 97) C dX1_gives_44 (by decide) rfl rfl (fun h44 => gj_neg h44 ?_) (fun h44 => gj_pos h44 ?_)
    · exact gx_vret C hQ hr dX1_gives_97
    · refine gj_iload_n C dX1_gives_47 3 rfl ?_
      refine gj_iload C dX1_gives_48 4 rfl ?_
      refine gx_callSI (As := [.int (iI a3), .int (iI a4)]) (rest := []) C E dX1_gives_50 (mx1_isIn (cx_l X) g a3 a4) (lw_S q1245 q1025 q125 q1026) hyx_X1_isIn hR (by omega) (by decide) rfl rfl (Nat.zero_le _) (fun v50 => ?_)
      refine gj_if_ne (tgt := 91) C dX1_gives_53 (by decide) (fun h53 => gj_neg h53 ?_) (fun h53 => gj_pos h53 ?_)
      · exact gj_to [0, 1, 2, 3, 4] (J91 a4) rfl
      · refine gx_aload_n C dX1_gives_56 0 rfl ?_
        refine gj_iload C dX1_gives_57 4 rfl ?_
        refine gj_iload_n C dX1_gives_59 2 rfl ?_
        refine gx_callVI (t0 := 1) (As := [.int (iI a4), .int (iI a2)]) (rest := []) C E rfl dX1_gives_60 (mx1_mayBe (cx_l X) g a0 a4 a2) (lw_V q1241 q1243 qs31 q125 q1244) hyx_X1_mayBe rfl hR (by omega) (by decide) rfl rfl (Nat.zero_le _) (fun v60 => ?_)
        refine gj_if_ne (tgt := 69) C dX1_gives_63 (by decide) (fun h63 => gj_neg h63 ?_) (fun h63 => gj_pos h63 ?_)
        · refine gx_aload_n C dX1_gives_69 0 rfl ?_
          refine gx_gR (O := "BorrowedLives") (nm := "lot") (ds := "[I") (fin := true) C E dX1_gives_70 (by decide +kernel) (Or.inl q389) (fun _ h => h) (fun v70 => ?_)
          refine gj_iload_n C dX1_gives_73 2 rfl ?_
          refine gj_iload C dX1_gives_74 4 rfl ?_
          refine gj_nrmI ?_
          refine gx_iast C E dX1_gives_76 ?_
          refine gx_aload_n C dX1_gives_77 0 rfl ?_
          refine gx_aload_n C dX1_gives_78 1 rfl ?_
          refine gj_iload_n C dX1_gives_79 2 rfl ?_
          refine gj_iconst C dX1_gives_80 ?_
          refine gj_iadd C dX1_gives_81 ?_
          refine gj_iload_n C dX1_gives_82 3 rfl ?_
          refine gj_iconst C dX1_gives_83 ?_
          refine gj_iload C dX1_gives_84 4 rfl ?_
          refine gj_ishl C dX1_gives_86 ?_
          refine gj_ior C dX1_gives_87 ?_
          refine gx_callVV (t0 := 1) (As := [rv g a1, .int (iI ((a2 + 1))), .int (iI (zor a3 (zshl 1 a4)))]) (rest := []) C E rfl dX1_gives_88 (hS a0 a1 (a2 + 1) (zor a3 (zshl 1 a4))) (lw_V q1292 q1294 qs33 q125 q1295) hyx_X1_gives rfl hR (by omega) (by decide) rfl rfl (Nat.zero_le _) ?_
          exact gj_to [0, 1, 2, 3, 4] (J91 a4) rfl
        · refine gj_goto (tgt := 91) C dX1_gives_66 (by decide) ?_
          exact gj_to [0, 1, 2, 3, 4] (J91 a4) rfl
  unfold x1_gives_s
  refine gj_iload_n C dX1_gives_0 2 rfl ?_
  refine gx_aload_n C dX1_gives_1 0 rfl ?_
  refine gx_callVI (t0 := 1) (As := []) (rest := [.int (iI a2)]) C E rfl dX1_gives_2 (mx1_people (cx_l X) g a0) (lw_V q1192 q1194 qs29 q125 q1195) hyx_X1_people rfl hR (by omega) (by decide) rfl rfl (Nat.le_of_ble_eq_true rfl) (fun v2 => ?_)
  refine gj_icmp_ne (tgt := 35) C dX1_gives_5 (by decide) rfl rfl (fun h5 => gj_neg h5 ?_) (fun h5 => gj_pos h5 ?_)
  · refine gj_iconst C dX1_gives_35 ?_
    refine gj_istore (L' := [(4, _), (0, _), (1, _), (2, _), (3, _)]) C dX1_gives_36 (by decide) rfl ?_
    exact gj_to [1, 2, 3, 4, 0] (J38 a0 a1 a2 a3 0) rfl
  · refine gx_aload_n C dX1_gives_8 0 rfl ?_
    refine gx_callVI (t0 := 1) (As := []) (rest := []) C E rfl dX1_gives_9 (mx1_people (cx_l X) g a0) (lw_V q1192 q1194 qs29 q125 q1195) hyx_X1_people rfl hR (by omega) (by decide) rfl rfl (Nat.zero_le _) (fun v9 => ?_)
    refine gj_if_ne (tgt := 16) C dX1_gives_12 (by decide) (fun h12 => gj_neg h12 ?_) (fun h12 => gj_pos h12 ?_)
    · refine gx_aload_n C dX1_gives_16 1 rfl ?_
      refine gx_dup C dX1_gives_17 ?_
      refine gx_gIs (O := "BorrowedLives$Looker") (nm := "lots") (ds := "I") (fin := false) C E dX1_gives_18 (by decide +kernel) (Or.inl q1268) (fun _ h => h) (fun v18 => ?_)
      refine gj_iconst C dX1_gives_21 ?_
      refine gj_iadd C dX1_gives_22 ?_
      refine gj_nrmI ?_
      refine gx_pIs (O := "BorrowedLives$Looker") (nm := "lots") (ds := "I") (fin := false) (ty := .int) C E dX1_gives_23 (by decide +kernel) (Or.inl q1268) (fun _ h => h) (fun h => by cases h) (by decide +kernel) (inty_int _) ?_
      refine gx_aload_n C dX1_gives_26 1 rfl ?_
      refine gx_aload_n C dX1_gives_27 0 rfl ?_
      refine gx_gR (O := "BorrowedLives") (nm := "lot") (ds := "[I") (fin := true) C E dX1_gives_28 (by decide +kernel) (Or.inl q389) (fun _ h => h) (fun v28 => ?_)
      refine gx_shV (rest := []) (fun kk => ?_) ?_
      · refine gx_dcons (gx_callAV (x := ⟨"BorrowedLives$Looker", "sees", "([I)V"⟩) (owner := "BorrowedLives$Looker") (t0 := 19) (As := [rv g v28]) (rest := []) C E rfl dX1_gives_31 (mx23_sees (cx_l X) g a1 v28) q1296 q1298 q1400 q1401 q165 q1402 q1297 hy9_X22_sees hR (by omega) (by decide) rfl rfl (Nat.zero_le _) kk) ?_
        refine gx_dcons (gx_callAV (x := ⟨"BorrowedLives$Looker", "sees", "([I)V"⟩) (owner := "BorrowedLives$Looker") (t0 := 20) (As := [rv g v28]) (rest := []) C E rfl dX1_gives_31 (mx24_sees (cx_l X) g a1 v28) q1296 q1298 q1435 q1436 q166 q1437 q1297 hy9_X22_sees hR (by omega) (by decide) rfl rfl (Nat.zero_le _) kk) ?_
        refine gx_dcons (gx_callAV (x := ⟨"BorrowedLives$Looker", "sees", "([I)V"⟩) (owner := "BorrowedLives$Looker") (t0 := 21) (As := [rv g v28]) (rest := []) C E rfl dX1_gives_31 (mx25_sees (cx_l X) g a1 v28) q1296 q1298 q1426 q1427 q167 q1428 q1297 hy9_X22_sees hR (by omega) (by decide) rfl rfl (Nat.zero_le _) kk) ?_
        refine gx_dcons (gx_callAV (x := ⟨"BorrowedLives$Looker", "sees", "([I)V"⟩) (owner := "BorrowedLives$Looker") (t0 := 22) (As := [rv g v28]) (rest := []) C E rfl dX1_gives_31 (mx26_sees (cx_l X) g a1 v28) q1296 q1298 q1408 q1409 q168 q1410 q1297 hy9_X22_sees hR (by omega) (by decide) rfl rfl (Nat.zero_le _) kk) ?_
        refine gx_dcons (gx_callAV (x := ⟨"BorrowedLives$Looker", "sees", "([I)V"⟩) (owner := "BorrowedLives$Looker") (t0 := 23) (As := [rv g v28]) (rest := []) C E rfl dX1_gives_31 (mx27_sees (cx_l X) g a1 v28) q1296 q1298 q1403 q1404 q170 q1405 q1297 hy9_X22_sees hR (by omega) (by decide) rfl rfl (Nat.zero_le _) kk) ?_
        refine gx_dcons (gx_callAV (x := ⟨"BorrowedLives$Looker", "sees", "([I)V"⟩) (owner := "BorrowedLives$Looker") (t0 := 24) (As := [rv g v28]) (rest := []) C E rfl dX1_gives_31 (mx28_sees (cx_l X) g a1 v28) q1296 q1298 q1299 q1300 q172 q1301 q1297 hy9_X22_sees hR (by omega) (by decide) rfl rfl (Nat.zero_le _) kk) ?_
        exact gx_dnil
      exact gx_vret C hQ hr dX1_gives_34
    · exact gx_vret C hQ hr dX1_gives_15
def x1_gives : Nat → Option Nat → Option Nat → Int → Int → PT Hp Unit
  | 0 => fun _ _ _ _ => pfail
  | n + 1 => x1_gives_s (x1_gives n)
theorem mx1_gives (l : Launch) (g : XG) : ∀ (n : Nat), ∀ (a0 a1 : Option Nat) (a2 a3 : Int), XMet l g yX1_gives cX1_gives 5 (Option.none : Option Jvm.ClassFile.FieldType) (706 + n) [rv g a0, rv g a1, .int (iI a2), .int (iI a3)] (x1_gives n a0 a1 a2 a3) rvV := by
  intro n
  induction n with
  | zero => intro a0 a1 a2 a3 Q σ h; exact h.elim
  | succ n ih => intro a0 a1 a2 a3; exact mx1_gives_s l g (by omega) ih a0 a1 a2 a3
def x1_shows_b2 (a0 a1 : Option Nat) (a2 : Int) (bk2 : (Int) → PT Hp Unit) : PT Hp Unit :=
  pite (w32 a2 < 6) (
    pbnd (xgR a0 1 9) fun v9 =>
    pbnd (xst v9 40 a2 (w32 a2)) fun _ =>
    bk2 (a2 + 1)) (
    pbnd (xrecv a0 1) fun _ =>
    pbnd (x1_gives 10 a0 a1 0 0) fun _ =>
    pret ())
def x1_shows_l2 (a0 a1 : Option Nat) (a2 : Int) : PT Hp Unit :=
  ploop (fun (s : (Int)) bk2 => x1_shows_b2 a0 a1 s bk2) (a2)
def x1_shows (a0 a1 : Option Nat) : PT Hp Unit :=
  x1_shows_l2 a0 a1 0
set_option maxHeartbeats 4000000 in
set_option maxRecDepth 100000 in
theorem mx1_shows (l : Launch) (g : XG) (a0 a1 : Option Nat) : XMet l g yX1_shows cX1_shows 3 (Option.none : Option Jvm.ClassFile.FieldType) (717) [rv g a0, rv g a1] (x1_shows a0 a1) rvV := by
  refine gx_start (by decide +kernel) (by have e := lg_sl_len [rv g a0, rv g a1]; simp only [List.map_cons, List.map_nil, List.sum_cons, List.sum_nil, rv_cat, cat_int, cat_long] at e; omega) (fun X Q σ0 hl C E hQ hR hr hnm => ?_)
  subst hl
  rw [show lv_args 0 [rv g a0, rv g a1] = [(0, rv g a0), (1, rv g a1)] from by simp [lv_args, rv_cat, cat_int, cat_long]]
  show GJ X 3 (xWo g σ0 (cx_s X).heap) Q (x1_shows a0 a1) 0 [(0, rv g a0), (1, rv g a1)] []
  have J2 : ∀ (a0 a1 : Option Nat) (a2 : Int), GJ X 3 (xWo g σ0 (cx_s X).heap) Q (x1_shows_l2 a0 a1 a2) 2 [(0, rv g a0), (1, rv g a1), (2, .int (iI a2))] [] := by
    intro a0 a1 a2
    unfold x1_shows_l2
    refine gj_loop (fun (s : (Int)) => [(0, rv g a0), (1, rv g a1), (2, .int (iI s))]) (a2) (fun bk2 hb2 s => ?_)
    obtain ⟨a2, rfl⟩ : ∃ z, z = s := ⟨s, rfl⟩
    show GJ X 3 (xWo g σ0 (cx_s X).heap) Q (x1_shows_b2 a0 a1 a2 bk2) 2 [(0, rv g a0), (1, rv g a1), (2, .int (iI a2))] []
    unfold x1_shows_b2
    refine gj_iload_n C dX1_shows_2 2 rfl ?_
    refine gj_bipush C dX1_shows_3 rfl ?_
    refine gj_icmp_ge (tgt := 21) (b' := 6) C dX1_shows_5 (by decide) rfl (by decide) (fun h5 => gj_neg h5 ?_) (fun h5 => gj_pos h5 ?_)
    · refine gx_aload_n C dX1_shows_21 0 rfl ?_
      refine gx_aload_n C dX1_shows_22 1 rfl ?_
      refine gj_iconst C dX1_shows_23 ?_
      refine gj_iconst C dX1_shows_24 ?_
      refine gx_callVV (t0 := 1) (As := [rv g a1, .int (iI 0), .int (iI 0)]) (rest := []) C E rfl dX1_shows_25 (mx1_gives (cx_l X) g 10 a0 a1 0 0) (lw_V q1292 q1294 qs33 q125 q1295) hyx_X1_gives rfl hR (Nat.le_of_ble_eq_true rfl) (by decide) rfl rfl (Nat.zero_le _) ?_
      exact gx_vret C hQ hr dX1_shows_28
    · refine gx_aload_n C dX1_shows_8 0 rfl ?_
      refine gx_gR (O := "BorrowedLives") (nm := "lot") (ds := "[I") (fin := true) C E dX1_shows_9 (by decide +kernel) (Or.inl q389) (fun _ h => h) (fun v9 => ?_)
      refine gj_iload_n C dX1_shows_12 2 rfl ?_
      refine gj_iload_n C dX1_shows_13 2 rfl ?_
      refine gj_nrmI ?_
      refine gx_iast C E dX1_shows_14 ?_
      refine gj_iinc (L' := [(2, .int (iI ((a2 + 1)))), (0, rv g a0), (1, rv g a1)]) C dX1_shows_15 2 rfl (by decide) (by simp [List.filter, rv_cat, cat_int, cat_long, fin4_3]) ?_
      refine gj_goto (tgt := 2) C dX1_shows_18 (by decide) ?_
      exact gj_to [1, 2, 0] (hb2 (a2 + 1)) rfl
  unfold x1_shows
  refine gj_iconst C dX1_shows_0 ?_
  refine gj_istore_n (L' := [(2, .int (iI 0)), (0, rv g a0), (1, rv g a1)]) C dX1_shows_1 (by decide) (by simp [List.filter, rv_cat, cat_int, cat_long, fin4_3]) ?_
  exact gj_to [1, 2, 0] (J2 a0 a1 0) rfl
def x1_lots (a0 : Option Nat) : PT Hp Int :=
  pbnd (xnew 19) fun v0 =>
  pbnd (xnn v0) fun _ =>
  pbnd (x23_init v0 a0 (-1) (-1)) fun _ =>
  pbnd (xrecv a0 1) fun _ =>
  pbnd (x1_shows a0 v0) fun _ =>
  pbnd (xgIs v0 [19, 20, 21, 22, 23, 24] 0) fun v17 =>
  pret v17
set_option maxHeartbeats 4000000 in
set_option maxRecDepth 100000 in
theorem mx1_lots (l : Launch) (g : XG) (a0 : Option Nat) : XMet l g yX1_lots cX1_lots 2 (Option.some Jvm.ClassFile.FieldType.int) (718) [rv g a0] (x1_lots a0) rvI := by
  refine gx_start (by decide +kernel) (by have e := lg_sl_len [rv g a0]; simp only [List.map_cons, List.map_nil, List.sum_cons, List.sum_nil, rv_cat, cat_int, cat_long] at e; omega) (fun X Q σ0 hl C E hQ hR hr hnm => ?_)
  subst hl
  rw [show lv_args 0 [rv g a0] = [(0, rv g a0)] from by simp [lv_args, rv_cat, cat_int, cat_long]]
  show GJ X 2 (xWo g σ0 (cx_s X).heap) Q (x1_lots a0) 0 [(0, rv g a0)] []
  unfold x1_lots
  refine gx_new (t0 := 19) C E dX1_lots_0 rfl q1250 q1251 q165 (fun v0 => ?_)
  refine gx_dup C dX1_lots_3 ?_
  refine gx_aload_n C dX1_lots_4 0 rfl ?_
  refine gj_iconst C dX1_lots_5 ?_
  refine gj_iconst C dX1_lots_6 ?_
  refine gx_callIV (As := [rv g a0, .int (iI (-1)), .int (iI (-1))]) (rest := [rv g v0]) C E dX1_lots_7 (mx23_init (cx_l X) g v0 a0 (-1) (-1)) (lw_meth q1254) q165 q1252 q1253 rfl hyx_X23_init hR (Nat.le_of_ble_eq_true rfl) (by decide) rfl rfl (by simp only [List.map_cons, List.map_nil, List.sum_cons, List.sum_nil, rv_cat, cat_int, cat_long]; decide) ?_
  refine gx_astore_n (L' := [(1, rv g v0), (0, rv g a0)]) C dX1_lots_10 (by decide) (by simp [List.filter, rv_cat, cat_int, cat_long, fin4_3]) ?_
  refine gx_aload_n C dX1_lots_11 1 rfl ?_
  refine gx_aload_n C dX1_lots_12 0 rfl ?_
  refine gx_callVV (t0 := 1) (As := [rv g v0]) (rest := []) C E rfl dX1_lots_13 (mx1_shows (cx_l X) g a0 v0) (lw_V q1288 q1290 qs32 q125 q1291) hyx_X1_shows rfl hR (Nat.le_of_ble_eq_true rfl) (by decide) rfl rfl (Nat.zero_le _) ?_
  refine gx_aload_n C dX1_lots_16 0 rfl ?_
  refine gx_gIs (O := "BorrowedLives$Looker") (nm := "lots") (ds := "I") (fin := false) C E dX1_lots_17 (by decide +kernel) (Or.inl q1268) (fun _ h => h) (fun v17 => ?_)
  exact gx_iret C hQ hr dX1_lots_20
def x1_odds (a0 : Option Nat) (a1 a2 : Int) : PT Hp Int :=
  pbnd (xrecv a0 1) fun _ =>
  pbnd (x1_isPerson a0 a1) fun v2 =>
  pite (w32 v2 = 0) (
    pret (-1)) (
    pbnd (xrecv a0 1) fun _ =>
    pbnd (x1_isPerson a0 a2) fun v10 =>
    pite (w32 v10 = 0) (
      pret (-1)) (
      pbnd (xnew 19) fun v18 =>
      pbnd (xnn v18) fun _ =>
      pbnd (x23_init v18 a0 a1 a2) fun _ =>
      pbnd (xrecv a0 1) fun _ =>
      pbnd (x1_shows a0 v18) fun _ =>
      pbnd (xgI v18 19 0) fun v35 =>
      pite (w32 v35 = 0) (
        pret (-1)) (
        pbnd (xgI v18 19 4) fun v46 =>
        pbnd (xgI v18 19 0) fun v55 =>
        pbnd (pnzl (zi2l v55)) fun _ =>
        pret (zl2i (ldiv' (((zi2l v46) * 1000000)) (zi2l v55))))))
set_option maxHeartbeats 4000000 in
set_option maxRecDepth 100000 in
theorem mx1_odds (l : Launch) (g : XG) (a0 : Option Nat) (a1 a2 : Int) : XMet l g yX1_odds cX1_odds 4 (Option.some Jvm.ClassFile.FieldType.int) (718) [rv g a0, .int (iI a1), .int (iI a2)] (x1_odds a0 a1 a2) rvI := by
  refine gx_start (by decide +kernel) (by have e := lg_sl_len [rv g a0, .int (iI a1), .int (iI a2)]; simp only [List.map_cons, List.map_nil, List.sum_cons, List.sum_nil, rv_cat, cat_int, cat_long] at e; omega) (fun X Q σ0 hl C E hQ hR hr hnm => ?_)
  subst hl
  rw [show lv_args 0 [rv g a0, .int (iI a1), .int (iI a2)] = [(0, rv g a0), (1, .int (iI a1)), (2, .int (iI a2))] from by simp [lv_args, rv_cat, cat_int, cat_long]]
  show GJ X 4 (xWo g σ0 (cx_s X).heap) Q (x1_odds a0 a1 a2) 0 [(0, rv g a0), (1, .int (iI a1)), (2, .int (iI a2))] []
  unfold x1_odds
  refine gx_aload_n C dX1_odds_0 0 rfl ?_
  refine gj_iload_n C dX1_odds_1 1 rfl ?_
  refine gx_callVI (t0 := 1) (As := [.int (iI a1)]) (rest := []) C E rfl dX1_odds_2 (mx1_isPerson (cx_l X) g a0 a1) (lw_V q1188 q1190 qs28 q125 q1191) hyx_X1_isPerson rfl hR (Nat.le_of_ble_eq_true rfl) (by decide) rfl rfl (Nat.zero_le _) (fun v2 => ?_)
  refine gj_if_eq (tgt := 16) C dX1_odds_5 (by decide) (fun h5 => gj_pos h5 ?_) (fun h5 => gj_neg h5 ?_)
  · refine gj_iconst C dX1_odds_16 ?_
    exact gx_iret C hQ hr dX1_odds_17
  · refine gx_aload_n C dX1_odds_8 0 rfl ?_
    refine gj_iload_n C dX1_odds_9 2 rfl ?_
    refine gx_callVI (t0 := 1) (As := [.int (iI a2)]) (rest := []) C E rfl dX1_odds_10 (mx1_isPerson (cx_l X) g a0 a2) (lw_V q1188 q1190 qs28 q125 q1191) hyx_X1_isPerson rfl hR (Nat.le_of_ble_eq_true rfl) (by decide) rfl rfl (Nat.zero_le _) (fun v10 => ?_)
    refine gj_if_ne (tgt := 18) C dX1_odds_13 (by decide) (fun h13 => gj_neg h13 ?_) (fun h13 => gj_pos h13 ?_)
    · refine gx_new (t0 := 19) C E dX1_odds_18 rfl q1250 q1251 q165 (fun v18 => ?_)
      refine gx_dup C dX1_odds_21 ?_
      refine gx_aload_n C dX1_odds_22 0 rfl ?_
      refine gj_iload_n C dX1_odds_23 1 rfl ?_
      refine gj_iload_n C dX1_odds_24 2 rfl ?_
      refine gx_callIV (As := [rv g a0, .int (iI a1), .int (iI a2)]) (rest := [rv g v18]) C E dX1_odds_25 (mx23_init (cx_l X) g v18 a0 a1 a2) (lw_meth q1254) q165 q1252 q1253 rfl hyx_X23_init hR (Nat.le_of_ble_eq_true rfl) (by decide) rfl rfl (by simp only [List.map_cons, List.map_nil, List.sum_cons, List.sum_nil, rv_cat, cat_int, cat_long]; decide) ?_
      refine gx_astore_n (L' := [(3, _), (0, _), (1, _), (2, _)]) C dX1_odds_28 (by decide) rfl ?_
      refine gx_aload_n C dX1_odds_29 1 rfl ?_
      refine gx_aload_n C dX1_odds_30 0 rfl ?_
      refine gx_callVV (t0 := 1) (As := [rv g v18]) (rest := []) C E rfl dX1_odds_31 (mx1_shows (cx_l X) g a0 v18) (lw_V q1288 q1290 qs32 q125 q1291) hyx_X1_shows rfl hR (Nat.le_of_ble_eq_true rfl) (by decide) rfl rfl (Nat.zero_le _) ?_
      refine gx_aload_n C dX1_odds_34 0 rfl ?_
      refine gx_gI (O := "BorrowedLives$Looker") (nm := "lots") (ds := "I") (fin := false) C E dX1_odds_35 (by decide +kernel) (Or.inl q1269) (fun x h => u_same (C.2.2.2.2.2 _ q1270) x h) (fun v35 => ?_)
      refine gj_if_ne (tgt := 45) C dX1_odds_38 (by decide) (fun h38 => gj_neg h38 ?_) (fun h38 => gj_pos h38 ?_)
      · refine gx_aload_n C dX1_odds_45 0 rfl ?_
        refine gx_gI (O := "BorrowedLives$Counts") (nm := "hits") (ds := "I") (fin := false) C E dX1_odds_46 (by decide +kernel) (Or.inr ⟨_, q1262⟩) (fun _ h => h) (fun v46 => ?_)
        refine gj_i2l C dX1_odds_49 ?_
        refine gj_ldc2 (z := 1000000) C dX1_odds_50 q1443 (by decide) ?_
        refine gj_lmul C dX1_odds_53 ?_
        refine gx_aload_n C dX1_odds_54 0 rfl ?_
        refine gx_gI (O := "BorrowedLives$Looker") (nm := "lots") (ds := "I") (fin := false) C E dX1_odds_55 (by decide +kernel) (Or.inl q1269) (fun x h => u_same (C.2.2.2.2.2 _ q1270) x h) (fun v55 => ?_)
        refine gj_i2l C dX1_odds_58 ?_
        refine gj_nzl (fun hz59 => ?_)
        refine gj_ldiv C dX1_odds_59 hz59 ?_
        refine gj_l2i C dX1_odds_60 ?_
        exact gx_iret C hQ hr dX1_odds_61
      · refine gj_iconst C dX1_odds_41 ?_
        refine gj_goto (tgt := 61) C dX1_odds_42 (by decide) ?_
        exact gx_iret C hQ hr dX1_odds_61
    · refine gj_iconst C dX1_odds_16 ?_
      exact gx_iret C hQ hr dX1_odds_17
def x1_keeps_j92 (a0 : Option Nat) : PT Hp Unit :=
  pbnd (xgR a0 1 10) fun v93 =>
  pbnd (xgI a0 1 11) fun v98 =>
  pbnd (xpI a0 1 11 (w32 (v98 + 1))) fun _ =>
  pbnd (xldR v93 45 v98) fun v107 =>
  pbnd (xgR a0 1 4) fun v109 =>
  pbnd (xrecv v107 4) fun _ =>
  pbnd (x4_be v107 v109) fun _ =>
  pret ()
def x1_keeps_j64 (a0 : Option Nat) : PT Hp Unit :=
  pbnd (xgR a0 1 10) fun v65 =>
  pbnd (xgI a0 1 11) fun v69 =>
  pbnd (xldR v65 45 v69) fun v72 =>
  pite (v72 = none) (
    pbnd (xgR a0 1 10) fun v77 =>
    pbnd (xgI a0 1 11) fun v81 =>
    pbnd (xnew 4) fun v84 =>
    pbnd (xnn v84) fun _ =>
    pbnd (x4_init v84) fun _ =>
    pbnd (xstR v77 45 v81 v84) fun _ =>
    x1_keeps_j92 a0) (
    x1_keeps_j92 a0)
def x1_keeps_b18 (a0 a1 : Option Nat) (a2 : Int) (bk18 : (Int) → PT Hp Unit) : PT Hp Unit :=
  pite (w32 ((a2 + 1)) < 16) (
    pbnd (xgR a0 1 10) fun v27 =>
    pbnd (xgR a0 1 10) fun v32 =>
    pbnd (xldR v32 45 (a2 + 1)) fun v38 =>
    pbnd (xstR v27 45 a2 v38) fun _ =>
    bk18 (a2 + 1)) (
    pbnd (xgR a0 1 10) fun v47 =>
    pbnd (xstR v47 45 15 a1) fun _ =>
    pbnd (xgI a0 1 11) fun v56 =>
    pbnd (xpI a0 1 11 (w32 (v56 - 1))) fun _ =>
    x1_keeps_j64 a0)
def x1_keeps_l18 (a0 a1 : Option Nat) (a2 : Int) : PT Hp Unit :=
  ploop (fun (s : (Int)) bk18 => x1_keeps_b18 a0 a1 s bk18) (a2)
def x1_keeps (a0 : Option Nat) : PT Hp Unit :=
  pbnd (xgI a0 1 11) fun v1 =>
  pite (w32 v1 = 16) (
    pbnd (xgR a0 1 10) fun v10 =>
    pbnd (xldR v10 45 0) fun v14 =>
    x1_keeps_l18 a0 v14 0) (
    x1_keeps_j64 a0)
set_option maxHeartbeats 4000000 in
set_option maxRecDepth 100000 in
theorem mx1_keeps (l : Launch) (g : XG) (a0 : Option Nat) : XMet l g yX1_keeps cX1_keeps 3 (Option.none : Option Jvm.ClassFile.FieldType) (2) [rv g a0] (x1_keeps a0) rvV := by
  refine gx_start (by decide +kernel) (by have e := lg_sl_len [rv g a0]; simp only [List.map_cons, List.map_nil, List.sum_cons, List.sum_nil, rv_cat, cat_int, cat_long] at e; omega) (fun X Q σ0 hl C E hQ hR hr hnm => ?_)
  subst hl
  rw [show lv_args 0 [rv g a0] = [(0, rv g a0)] from by simp [lv_args, rv_cat, cat_int, cat_long]]
  show GJ X 3 (xWo g σ0 (cx_s X).heap) Q (x1_keeps a0) 0 [(0, rv g a0)] []
  have J92 : ∀ (a0 : Option Nat), GJ X 3 (xWo g σ0 (cx_s X).heap) Q (x1_keeps_j92 a0) 92 [(0, rv g a0)] [] := by
    intro a0
    unfold x1_keeps_j92
    refine gx_aload_n C dX1_keeps_92 0 rfl ?_
    refine gx_gR (O := "BorrowedLives") (nm := "undone") (ds := "[LBorrowedLives$State;") (fin := true) C E dX1_keeps_93 (by decide +kernel) (Or.inl q390) (fun _ h => h) (fun v93 => ?_)
    refine gx_aload_n C dX1_keeps_96 0 rfl ?_
    refine gx_dup C dX1_keeps_97 ?_
    refine gx_gI (O := "BorrowedLives") (nm := "done") (ds := "I") (fin := false) C E dX1_keeps_98 (by decide +kernel) (Or.inl q391) (fun _ h => h) (fun v98 => ?_)
    refine gj_dup_x1 C dX1_keeps_101 rfl (rv_cat _ _) ?_
    refine gj_iconst C dX1_keeps_102 ?_
    refine gj_iadd C dX1_keeps_103 ?_
    refine gj_nrmI ?_
    refine gx_pI (O := "BorrowedLives") (nm := "done") (ds := "I") (fin := false) (ty := .int) C E dX1_keeps_104 (by decide +kernel) (Or.inl q391) (fun _ h => h) (fun h => by cases h) (by decide +kernel) (inty_int _) ?_
    refine gx_aald (t0 := 5) C E dX1_keeps_107 (by decide) (by decide) rfl rfl (fun v107 => ?_)
    refine gx_aload_n C dX1_keeps_108 0 rfl ?_
    refine gx_gR (O := "BorrowedLives") (nm := "state") (ds := "LBorrowedLives$State;") (fin := true) C E dX1_keeps_109 (by decide +kernel) (Or.inl q380) (fun _ h => h) (fun v109 => ?_)
    refine gx_callVV (t0 := 4) (As := [rv g v109]) (rest := []) C E rfl dX1_keeps_112 (mx4_be (cx_l X) g v107 v109) (lw_V q1306 q1307 q1308 q131 q1309) hyx_X4_be rfl hR (Nat.le_of_ble_eq_true rfl) (by decide) rfl rfl (Nat.zero_le _) ?_
    exact gx_vret C hQ hr dX1_keeps_115
  have J64 : ∀ (a0 : Option Nat), GJ X 3 (xWo g σ0 (cx_s X).heap) Q (x1_keeps_j64 a0) 64 [(0, rv g a0)] [] := by
    intro a0
    unfold x1_keeps_j64
    refine gx_aload_n C dX1_keeps_64 0 rfl ?_
    refine gx_gR (O := "BorrowedLives") (nm := "undone") (ds := "[LBorrowedLives$State;") (fin := true) C E dX1_keeps_65 (by decide +kernel) (Or.inl q390) (fun _ h => h) (fun v65 => ?_)
    refine gx_aload_n C dX1_keeps_68 0 rfl ?_
    refine gx_gI (O := "BorrowedLives") (nm := "done") (ds := "I") (fin := false) C E dX1_keeps_69 (by decide +kernel) (Or.inl q391) (fun _ h => h) (fun v69 => ?_)
    refine gx_aald (t0 := 5) C E dX1_keeps_72 (by decide) (by decide) rfl rfl (fun v72 => ?_)
    refine gx_ifnonnull (tgt := 92) C dX1_keeps_73 (by decide) (fun h73 => gj_neg h73 ?_) (fun h73 => gj_pos h73 ?_)
    · exact gj_to [0] (J92 a0) rfl
    · refine gx_aload_n C dX1_keeps_76 0 rfl ?_
      refine gx_gR (O := "BorrowedLives") (nm := "undone") (ds := "[LBorrowedLives$State;") (fin := true) C E dX1_keeps_77 (by decide +kernel) (Or.inl q390) (fun _ h => h) (fun v77 => ?_)
      refine gx_aload_n C dX1_keeps_80 0 rfl ?_
      refine gx_gI (O := "BorrowedLives") (nm := "done") (ds := "I") (fin := false) C E dX1_keeps_81 (by decide +kernel) (Or.inl q391) (fun _ h => h) (fun v81 => ?_)
      refine gx_new (t0 := 4) C E dX1_keeps_84 rfl q284 q285 q131 (fun v84 => ?_)
      refine gx_dup C dX1_keeps_87 ?_
      refine gx_callINV (As := []) (rest := [rv g v84, .int (iI v81), rv g v77]) C E dX1_keeps_88 (mx4_init (cx_l X) g v84) (lw_meth q288) q131 q286 q287 rfl hyx_X4_init hR (Nat.le_of_ble_eq_true rfl) (by decide) rfl rfl (by simp only [List.map_cons, List.map_nil, List.sum_cons, List.sum_nil, rv_cat, cat_int, cat_long]; decide) ?_
      refine gx_aast (t0 := 5) C E dX1_keeps_91 (by decide) (by decide) rfl xcast45 xelt45 ?_
      exact gj_to [0] (J92 a0) rfl
  have J18 : ∀ (a0 a1 : Option Nat) (a2 : Int), GJ X 3 (xWo g σ0 (cx_s X).heap) Q (x1_keeps_l18 a0 a1 a2) 18 [(0, rv g a0), (1, rv g a1), (2, .int (iI a2))] [] := by
    intro a0 a1 a2
    unfold x1_keeps_l18
    refine gj_loop (fun (s : (Int)) => [(0, rv g a0), (1, rv g a1), (2, .int (iI s))]) (a2) (fun bk18 hb18 s => ?_)
    obtain ⟨a2, rfl⟩ : ∃ z, z = s := ⟨s, rfl⟩
    show GJ X 3 (xWo g σ0 (cx_s X).heap) Q (x1_keeps_b18 a0 a1 a2 bk18) 18 [(0, rv g a0), (1, rv g a1), (2, .int (iI a2))] []
    unfold x1_keeps_b18
    refine gj_iload_n C dX1_keeps_18 2 rfl ?_
    refine gj_iconst C dX1_keeps_19 ?_
    refine gj_iadd C dX1_keeps_20 ?_
    refine gj_bipush C dX1_keeps_21 rfl ?_
    refine gj_icmp_ge (tgt := 46) (b' := 16) C dX1_keeps_23 (by decide) rfl (by decide) (fun h23 => gj_neg h23 ?_) (fun h23 => gj_pos h23 ?_)
    · refine gx_aload_n C dX1_keeps_46 0 rfl ?_
      refine gx_gR (O := "BorrowedLives") (nm := "undone") (ds := "[LBorrowedLives$State;") (fin := true) C E dX1_keeps_47 (by decide +kernel) (Or.inl q390) (fun _ h => h) (fun v47 => ?_)
      refine gj_bipush C dX1_keeps_50 rfl ?_
      refine gx_aload_n C dX1_keeps_52 1 rfl ?_
      refine gx_aast (t0 := 5) C E dX1_keeps_53 (by decide) (by decide) rfl xcast45 xelt45 ?_
      refine gx_aload_n C dX1_keeps_54 0 rfl ?_
      refine gx_dup C dX1_keeps_55 ?_
      refine gx_gI (O := "BorrowedLives") (nm := "done") (ds := "I") (fin := false) C E dX1_keeps_56 (by decide +kernel) (Or.inl q391) (fun _ h => h) (fun v56 => ?_)
      refine gj_iconst C dX1_keeps_59 ?_
      refine gj_isub C dX1_keeps_60 ?_
      refine gj_nrmI ?_
      refine gx_pI (O := "BorrowedLives") (nm := "done") (ds := "I") (fin := false) (ty := .int) C E dX1_keeps_61 (by decide +kernel) (Or.inl q391) (fun _ h => h) (fun h => by cases h) (by decide +kernel) (inty_int _) ?_
      exact gj_to [0] (J64 a0) rfl
    · refine gx_aload_n C dX1_keeps_26 0 rfl ?_
      refine gx_gR (O := "BorrowedLives") (nm := "undone") (ds := "[LBorrowedLives$State;") (fin := true) C E dX1_keeps_27 (by decide +kernel) (Or.inl q390) (fun _ h => h) (fun v27 => ?_)
      refine gj_iload_n C dX1_keeps_30 2 rfl ?_
      refine gx_aload_n C dX1_keeps_31 0 rfl ?_
      refine gx_gR (O := "BorrowedLives") (nm := "undone") (ds := "[LBorrowedLives$State;") (fin := true) C E dX1_keeps_32 (by decide +kernel) (Or.inl q390) (fun _ h => h) (fun v32 => ?_)
      refine gj_iload_n C dX1_keeps_35 2 rfl ?_
      refine gj_iconst C dX1_keeps_36 ?_
      refine gj_iadd C dX1_keeps_37 ?_
      refine gx_aald (t0 := 5) C E dX1_keeps_38 (by decide) (by decide) rfl rfl (fun v38 => ?_)
      refine gx_aast (t0 := 5) C E dX1_keeps_39 (by decide) (by decide) rfl xcast45 xelt45 ?_
      refine gj_iinc (L' := [(2, .int (iI ((a2 + 1)))), (0, rv g a0), (1, rv g a1)]) C dX1_keeps_40 2 rfl (by decide) (by simp [List.filter, rv_cat, cat_int, cat_long, fin4_3]) ?_
      refine gj_goto (tgt := 18) C dX1_keeps_43 (by decide) ?_
      exact gj_to [1, 2, 0] (hb18 (a2 + 1)) rfl
  unfold x1_keeps
  refine gx_aload_n C dX1_keeps_0 0 rfl ?_
  refine gx_gI (O := "BorrowedLives") (nm := "done") (ds := "I") (fin := false) C E dX1_keeps_1 (by decide +kernel) (Or.inl q391) (fun _ h => h) (fun v1 => ?_)
  refine gj_bipush C dX1_keeps_4 rfl ?_
  refine gj_icmp_ne (tgt := 64) (b' := 16) C dX1_keeps_6 (by decide) rfl (by decide) (fun h6 => gj_neg h6 ?_) (fun h6 => gj_pos h6 ?_)
  · exact gj_to [0] (J64 a0) rfl
  · refine gx_aload_n C dX1_keeps_9 0 rfl ?_
    refine gx_gR (O := "BorrowedLives") (nm := "undone") (ds := "[LBorrowedLives$State;") (fin := true) C E dX1_keeps_10 (by decide +kernel) (Or.inl q390) (fun _ h => h) (fun v10 => ?_)
    refine gj_iconst C dX1_keeps_13 ?_
    refine gx_aald (t0 := 5) C E dX1_keeps_14 (by decide) (by decide) rfl rfl (fun v14 => ?_)
    refine gx_astore_n (L' := [(1, rv g v14), (0, rv g a0)]) C dX1_keeps_15 (by decide) (by simp [List.filter, rv_cat, cat_int, cat_long, fin4_3]) ?_
    refine gj_iconst C dX1_keeps_16 ?_
    refine gj_istore_n (L' := [(2, .int (iI 0)), (1, rv g v14), (0, rv g a0)]) C dX1_keeps_17 (by decide) (by simp [List.filter, rv_cat, cat_int, cat_long, fin4_3]) ?_
    exact gj_to [2, 1, 0] (J18 a0 v14 0) rfl
