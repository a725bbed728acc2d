/-! THE COMPONENT: its methods as pure programs, and that the machine runs so (X1.years, X29.init, X1.mark, X1.count, X1.power, X1.deedIn, X1.does, X1.goodOf, X1.gets, X1.isRest): printed by genx.py -/
def x1_years_j201 (a0 : Option Nat) (a2 a3 a4 a5 a6 : Int) (bk75 : (Int × Int × Int) → PT Hp Int) : PT Hp Int :=
  pbnd (xgR a0 1 5) fun v202 =>
  pbnd (xrecv v202 4) fun _ =>
  pbnd (x4_allAreHome v202) fun _ =>
  bk75 (a4, a5, a6 + 1)
def x1_years_b148 (a0 : Option Nat) (a2 a3 a4 a5 a6 : Int) (bk75 : (Int × Int × Int) → PT Hp Int) (a7 : Int) (bk148 : (Int) → PT Hp Int) : PT Hp Int :=
  pite (w32 a7 < 7) (
    pbnd (xgR a0 1 5) fun v157 =>
    pbnd (xgR a0 1 2) fun v161 =>
    pbnd (xrecv v161 3) fun _ =>
    pbnd (x3_sign v161) fun v164 =>
    pbnd (xrecv a0 1) fun _ =>
    pbnd (x1_passes a0 v157 v164) fun _ =>
    bk148 (a7 + 1)) (
    pbnd (xgR a0 1 5) fun v179 =>
    pbnd (xrecv v179 4) fun _ =>
    pbnd (x4_goodOfAll v179) fun v182 =>
    plet (a5 + v182) fun x186 =>
    pbnd (xgR a0 1 5) fun v192 =>
    pbnd (xrecv a0 1) fun _ =>
    pbnd (x1_comesHome a0 v192) fun v195 =>
    plet (a4 + v195) fun x199 =>
    x1_years_j201 a0 a2 a3 x199 x186 a6 bk75)
def x1_years_l148 (a0 : Option Nat) (a2 a3 a4 a5 a6 a7 : Int) (bk75 : (Int × Int × Int) → PT Hp Int) : PT Hp Int :=
  ploop (fun (s : (Int)) bk148 => x1_years_b148 a0 a2 a3 a4 a5 a6 bk75 s bk148) (a7)
def x1_years_j128 (a0 : Option Nat) (a2 a3 a4 a5 a6 a7 : Int) (bk75 : (Int × Int × Int) → PT Hp Int) (bk84 : (Int) → PT Hp Int) : PT Hp Int :=
  bk84 (a7 + 1)
def x1_years_b84 (a0 : Option Nat) (a2 a3 a4 a5 a6 : Int) (bk75 : (Int × Int × Int) → PT Hp Int) (a7 : Int) (bk84 : (Int) → PT Hp Int) : PT Hp Int :=
  pbnd (xrecv a0 1) fun _ =>
  pbnd (x1_people a0) fun v87 =>
  pite (w32 a7 < w32 v87) (
    pbnd (xrecv a0 1) fun _ =>
    pbnd (x1_draws a0 3) fun v95 =>
    pite (w32 v95 = 0) (
      pbnd (xgR a0 1 5) fun v102 =>
      pbnd (xgR v102 4 0) fun v105 =>
      pbnd (xld v105 40 a7) fun v110 =>
      pite (w32 v110 < 20) (
        x1_years_j128 a0 a2 a3 a4 a5 a6 a7 bk75 bk84) (
        pbnd (xgR a0 1 5) fun v117 =>
        pbnd (xgR v117 4 3) fun v120 =>
        pbnd (xst v120 40 a7 20) fun _ =>
        x1_years_j128 a0 a2 a3 a4 a5 a6 a7 bk75 bk84)) (
      x1_years_j128 a0 a2 a3 a4 a5 a6 a7 bk75 bk84)) (
    pbnd (xgR a0 1 5) fun v136 =>
    pbnd (xrecv a0 1) fun _ =>
    pbnd (x1_drawsLot a0 v136) fun v139 =>
    pite (w32 v139 < 0) (
      x1_years_j201 a0 a2 a3 a4 a5 a6 bk75) (
      x1_years_l148 a0 a2 a3 a4 a5 a6 0 bk75))
def x1_years_l84 (a0 : Option Nat) (a2 a3 a4 a5 a6 a7 : Int) (bk75 : (Int × Int × Int) → PT Hp Int) : PT Hp Int :=
  ploop (fun (s : (Int)) bk84 => x1_years_b84 a0 a2 a3 a4 a5 a6 bk75 s bk84) (a7)
def x1_years_b75 (a0 : Option Nat) (a2 a3 : Int) (a4 a5 a6 : Int) (bk75 : (Int × Int × Int) → PT Hp Int) : PT Hp Int :=
  pite (w32 a6 < w32 a2) (
    x1_years_l84 a0 a2 a3 a4 a5 a6 0 bk75) (
    pite (w32 a3 = 0) (
      pret a4) (
      pite (w32 a3 = 1) (
        pret a5) (
        pbnd (xgR a0 1 5) fun v234 =>
        pbnd (xgR v234 4 0) fun v237 =>
        pbnd (x1_sum v237) fun v240 =>
        pret v240)))
def x1_years_l75 (a0 : Option Nat) (a2 a3 a4 a5 a6 : Int) : PT Hp Int :=
  ploop (fun (s : (Int × Int × Int)) bk75 => x1_years_b75 a0 a2 a3 s.1 s.2.1 s.2.2 bk75) (a4, a5, a6)
def x1_years_j66 (a0 : Option Nat) (a2 a3 : Int) : PT Hp Int :=
  x1_years_l75 a0 a2 a3 0 0 0
def x1_years (a0 : Option Nat) (a1 a2 a3 : Int) : PT Hp Int :=
  pbnd (x1_in a1 0 9999) fun v5 =>
  pite (w32 v5 = 0) (
    pret (-1)) (
    pbnd (x1_in a2 1 20) fun v15 =>
    pite (w32 v15 = 0) (
      pret (-1)) (
      pbnd (x1_in a3 0 2) fun v24 =>
      pite (w32 v24 = 0) (
        pret (-1)) (
        pbnd (xpI a0 1 12 (zi2l a1)) fun _ =>
        pbnd (xgR a0 1 5) fun v39 =>
        pbnd (xgR a0 1 4) fun v43 =>
        pbnd (xrecv v39 4) fun _ =>
        pbnd (x4_be v39 v43) fun _ =>
        pbnd (xgR a0 1 5) fun v50 =>
        pbnd (xgI v50 4 7) fun v53 =>
        pite (w32 v53 = 0) (
          x1_years_j66 a0 a2 a3) (
          pbnd (xgR a0 1 5) fun v60 =>
          pbnd (xrecv v60 4) fun _ =>
          pbnd (x4_allAreHome v60) fun _ =>
          x1_years_j66 a0 a2 a3))))
set_option maxHeartbeats 4000000 in
set_option maxRecDepth 100000 in
theorem mx1_years (l : Launch) (g : XG) (a0 : Option Nat) (a1 a2 a3 : Int) : XMet l g yX1_years cX1_years 8 (Option.some Jvm.ClassFile.FieldType.int) (720) [rv g a0, .int (iI a1), .int (iI a2), .int (iI a3)] (x1_years a0 a1 a2 a3) rvI := by
  refine gx_start (by decide +kernel) (by have e := lg_sl_len [rv g a0, .int (iI a1), .int (iI a2), .int (iI a3)]; simp only [List.map_cons, List.map_nil, List.sum_cons, List.sum_nil, rv_cat, cat_int, cat_long] at e; omega) (fun X Q σ0 hl C E hQ hR hr hnm => ?_)
  subst hl
  rw [show lv_args 0 [rv g a0, .int (iI a1), .int (iI a2), .int (iI a3)] = [(0, rv g a0), (1, .int (iI a1)), (2, .int (iI a2)), (3, .int (iI a3))] from by simp [lv_args, rv_cat, cat_int, cat_long]]
  show GJ X 8 (xWo g σ0 (cx_s X).heap) Q (x1_years a0 a1 a2 a3) 0 [(0, rv g a0), (1, .int (iI a1)), (2, .int (iI a2)), (3, .int (iI a3))] []
  have J75 : ∀ (a0 : Option Nat) (a2 a3 a4 a5 a6 : Int), GJ X 8 (xWo g σ0 (cx_s X).heap) Q (x1_years_l75 a0 a2 a3 a4 a5 a6) 75 [(0, rv g a0), (2, .int (iI a2)), (3, .int (iI a3)), (4, .int (iI a4)), (5, .int (iI a5)), (6, .int (iI a6))] [] := by
    intro a0 a2 a3 a4 a5 a6
    unfold x1_years_l75
    refine gj_loop (fun (s : (Int × Int × Int)) => [(0, rv g a0), (2, .int (iI a2)), (3, .int (iI a3)), (4, .int (iI (s.1))), (5, .int (iI (s.2.1))), (6, .int (iI (s.2.2)))]) (a4, a5, a6) (fun bk75 hb75 s => ?_)
    obtain ⟨a4, a5, a6⟩ := s
    show GJ X 8 (xWo g σ0 (cx_s X).heap) Q (x1_years_b75 a0 a2 a3 a4 a5 a6 bk75) 75 [(0, rv g a0), (2, .int (iI a2)), (3, .int (iI a3)), (4, .int (iI a4)), (5, .int (iI a5)), (6, .int (iI a6))] []
    have J201 : ∀ (a4 a5 a6 : Int), GJ X 8 (xWo g σ0 (cx_s X).heap) Q (x1_years_j201 a0 a2 a3 a4 a5 a6 bk75) 201 [(0, rv g a0), (2, .int (iI a2)), (3, .int (iI a3)), (4, .int (iI a4)), (5, .int (iI a5)), (6, .int (iI a6))] [] := by
      intro a4 a5 a6
      unfold x1_years_j201
      refine gx_aload_n C dX1_years_201 0 rfl ?_
      refine gx_gR (O := "BorrowedLives") (nm := "trial") (ds := "LBorrowedLives$State;") (fin := true) C E dX1_years_202 (by decide +kernel) (Or.inl q382) (fun _ h => h) (fun v202 => ?_)
      refine gx_callVV (t0 := 4) (As := []) (rest := []) C E rfl dX1_years_205 (mx4_allAreHome (cx_l X) g v202) (lw_V q1514 q370 q371 q131 q372) hyx_X4_allAreHome rfl hR (Nat.le_of_ble_eq_true rfl) (by decide) rfl rfl (Nat.zero_le _) ?_
      refine gj_iinc (L' := [(6, _), (0, _), (2, _), (3, _), (4, _), (5, _)]) C dX1_years_208 5 rfl (by decide) rfl ?_
      refine gj_goto (tgt := 75) C dX1_years_211 (by decide) ?_
      exact gj_to [1, 2, 3, 4, 5, 0] (hb75 (a4, a5, a6 + 1)) rfl
    have J148 : ∀ (a4 a5 a6 a7 : Int), GJ X 8 (xWo g σ0 (cx_s X).heap) Q (x1_years_l148 a0 a2 a3 a4 a5 a6 a7 bk75) 148 [(0, rv g a0), (2, .int (iI a2)), (3, .int (iI a3)), (4, .int (iI a4)), (5, .int (iI a5)), (6, .int (iI a6)), (7, .int (iI a7))] [] := by
      intro a4 a5 a6 a7
      unfold x1_years_l148
      refine gj_loop (fun (s : (Int)) => [(0, rv g a0), (2, .int (iI a2)), (3, .int (iI a3)), (4, .int (iI a4)), (5, .int (iI a5)), (6, .int (iI a6)), (7, .int (iI s))]) (a7) (fun bk148 hb148 s => ?_)
      obtain ⟨a7, rfl⟩ : ∃ z, z = s := ⟨s, rfl⟩
      show GJ X 8 (xWo g σ0 (cx_s X).heap) Q (x1_years_b148 a0 a2 a3 a4 a5 a6 bk75 a7 bk148) 148 [(0, rv g a0), (2, .int (iI a2)), (3, .int (iI a3)), (4, .int (iI a4)), (5, .int (iI a5)), (6, .int (iI a6)), (7, .int (iI a7))] []
      unfold x1_years_b148
      refine gj_iload C dX1_years_148 6 rfl ?_
      refine gj_bipush C dX1_years_150 rfl ?_
      refine gj_icmp_ge (tgt := 176) (b' := 7) C dX1_years_152 (by decide) rfl (by decide) (fun h152 => gj_neg h152 ?_) (fun h152 => gj_pos h152 ?_)
      · refine gj_iload C dX1_years_176 4 rfl ?_
        refine gx_aload_n C dX1_years_178 0 rfl ?_
        refine gx_gR (O := "BorrowedLives") (nm := "trial") (ds := "LBorrowedLives$State;") (fin := true) C E dX1_years_179 (by decide +kernel) (Or.inl q382) (fun _ h => h) (fun v179 => ?_)
        refine gx_callVI (t0 := 4) (As := []) (rest := [.int (iI a5)]) C E rfl dX1_years_182 (mx4_goodOfAll (cx_l X) g v179) (lw_V q1692 q1693 q1694 q131 q1695) hyx_X4_goodOfAll rfl hR (Nat.le_of_ble_eq_true rfl) (by decide) rfl rfl (Nat.le_of_ble_eq_true rfl) (fun v182 => ?_)
        refine gj_iadd C dX1_years_185 ?_
        refine gj_let (fun x186 => ?_)
        refine gj_istore (L' := [(5, _), (0, _), (2, _), (3, _), (4, _), (6, _), (7, _)]) C dX1_years_186 (by decide) rfl ?_
        refine gj_iload C dX1_years_188 4 rfl ?_
        refine gx_aload_n C dX1_years_190 1 rfl ?_
        refine gx_aload_n C dX1_years_191 1 rfl ?_
        refine gx_gR (O := "BorrowedLives") (nm := "trial") (ds := "LBorrowedLives$State;") (fin := true) C E dX1_years_192 (by decide +kernel) (Or.inl q382) (fun _ h => h) (fun v192 => ?_)
        refine gx_callVI (t0 := 1) (As := [rv g v192]) (rest := [.int (iI a4)]) C E rfl dX1_years_195 (mx1_comesHome (cx_l X) g a0 v192) (lw_V q1509 q1511 qs45 q125 q1512) hyx_X1_comesHome rfl hR (Nat.le_of_ble_eq_true rfl) (by decide) rfl rfl (Nat.le_of_ble_eq_true rfl) (fun v195 => ?_)
        refine gj_iadd C dX1_years_198 ?_
        refine gj_let (fun x199 => ?_)
        refine gj_istore (L' := [(4, _), (5, _), (0, _), (2, _), (3, _), (6, _), (7, _)]) C dX1_years_199 (by decide) rfl ?_
        exact gj_to [2, 3, 4, 0, 1, 5] (J201 x199 x186 a6) rfl
      · refine gx_aload_n C dX1_years_155 0 rfl ?_
        refine gx_aload_n C dX1_years_156 0 rfl ?_
        refine gx_gR (O := "BorrowedLives") (nm := "trial") (ds := "LBorrowedLives$State;") (fin := true) C E dX1_years_157 (by decide +kernel) (Or.inl q382) (fun _ h => h) (fun v157 => ?_)
        refine gx_aload_n C dX1_years_160 0 rfl ?_
        refine gx_gR (O := "BorrowedLives") (nm := "town") (ds := "LBorrowedLives$Town;") (fin := false) C E dX1_years_161 (by decide +kernel) (Or.inl q377) (fun _ h => h) (fun v161 => ?_)
        refine gx_callVI (t0 := 3) (As := []) (rest := [rv g v157, rv g a0]) C E rfl dX1_years_164 (mx3_sign (cx_l X) g v161) (lw_V q1317 q1318 q1319 q127 q1320) hyx_X3_sign rfl hR (Nat.le_of_ble_eq_true rfl) (by decide) rfl rfl (by simp only [List.map_cons, List.map_nil, List.sum_cons, List.sum_nil, rv_cat, cat_int, cat_long]; decide) (fun v164 => ?_)
        refine gx_callVV (t0 := 1) (As := [rv g v157, .int (iI v164)]) (rest := []) C E rfl dX1_years_167 (mx1_passes (cx_l X) g a0 v157 v164) (lw_V q1321 q1323 qs35 q125 q1324) hyx_X1_passes rfl hR (Nat.le_of_ble_eq_true rfl) (by decide) rfl rfl (Nat.zero_le _) ?_
        refine gj_iinc (L' := [(7, _), (0, _), (2, _), (3, _), (4, _), (5, _), (6, _)]) C dX1_years_170 6 rfl (by decide) rfl ?_
        refine gj_goto (tgt := 148) C dX1_years_173 (by decide) ?_
        exact gj_to [1, 2, 3, 4, 5, 6, 0] (hb148 (a7 + 1)) rfl
    have J84 : ∀ (a4 a5 a6 a7 : Int), GJ X 8 (xWo g σ0 (cx_s X).heap) Q (x1_years_l84 a0 a2 a3 a4 a5 a6 a7 bk75) 84 [(0, rv g a0), (2, .int (iI a2)), (3, .int (iI a3)), (4, .int (iI a4)), (5, .int (iI a5)), (6, .int (iI a6)), (7, .int (iI a7))] [] := by
      intro a4 a5 a6 a7
      unfold x1_years_l84
      refine gj_loop (fun (s : (Int)) => [(0, rv g a0), (2, .int (iI a2)), (3, .int (iI a3)), (4, .int (iI a4)), (5, .int (iI a5)), (6, .int (iI a6)), (7, .int (iI s))]) (a7) (fun bk84 hb84 s => ?_)
      obtain ⟨a7, rfl⟩ : ∃ z, z = s := ⟨s, rfl⟩
      show GJ X 8 (xWo g σ0 (cx_s X).heap) Q (x1_years_b84 a0 a2 a3 a4 a5 a6 bk75 a7 bk84) 84 [(0, rv g a0), (2, .int (iI a2)), (3, .int (iI a3)), (4, .int (iI a4)), (5, .int (iI a5)), (6, .int (iI a6)), (7, .int (iI a7))] []
      have J128 : ∀ (a7 : Int), GJ X 8 (xWo g σ0 (cx_s X).heap) Q (x1_years_j128 a0 a2 a3 a4 a5 a6 a7 bk75 bk84) 128 [(0, rv g a0), (2, .int (iI a2)), (3, .int (iI a3)), (4, .int (iI a4)), (5, .int (iI a5)), (6, .int (iI a6)), (7, .int (iI a7))] [] := by
        intro a7
        unfold x1_years_j128
        refine gj_iinc (L' := [(7, _), (0, _), (2, _), (3, _), (4, _), (5, _), (6, _)]) C dX1_years_128 6 rfl (by decide) rfl ?_
        refine gj_goto (tgt := 84) C dX1_years_131 (by decide) ?_
        exact gj_to [1, 2, 3, 4, 5, 6, 0] (hb84 (a7 + 1)) rfl
      unfold x1_years_b84
      refine gj_iload C dX1_years_84 6 rfl ?_
      refine gx_aload_n C dX1_years_86 0 rfl ?_
      refine gx_callVI (t0 := 1) (As := []) (rest := [.int (iI a7)]) C E rfl dX1_years_87 (mx1_people (cx_l X) g a0) (lw_V q1192 q1194 qs29 q125 q1195) hyx_X1_people rfl hR (Nat.le_of_ble_eq_true rfl) (by decide) rfl rfl (Nat.le_of_ble_eq_true rfl) (fun v87 => ?_)
      refine gj_icmp_ge (tgt := 134) C dX1_years_90 (by decide) rfl rfl (fun h90 => gj_neg h90 ?_) (fun h90 => gj_pos h90 ?_)
      · refine gx_aload_n C dX1_years_134 0 rfl ?_
        refine gx_aload_n C dX1_years_135 0 rfl ?_
        refine gx_gR (O := "BorrowedLives") (nm := "trial") (ds := "LBorrowedLives$State;") (fin := true) C E dX1_years_136 (by decide +kernel) (Or.inl q382) (fun _ h => h) (fun v136 => ?_)
        refine gx_callVI (t0 := 1) (As := [rv g v136]) (rest := []) C E rfl dX1_years_139 (mx1_drawsLot (cx_l X) g a0 v136) (lw_V q1457 q1459 qs41 q125 q1460) hyx_X1_drawsLot rfl hR (Nat.le_of_ble_eq_true rfl) (by decide) rfl rfl (Nat.zero_le _) (fun v139 => ?_)
        refine gj_if_lt (tgt := 201) C dX1_years_142 (by decide) (fun h142 => gj_pos h142 ?_) (fun h142 => gj_neg h142 ?_)
        · exact gj_to [0, 1, 2, 3, 4, 5] (J201 a4 a5 a6) rfl
        · refine gj_iconst C dX1_years_145 ?_
          refine gj_istore (L' := [(7, _), (0, _), (2, _), (3, _), (4, _), (5, _), (6, _)]) C dX1_years_146 (by decide) rfl ?_
          exact gj_to [1, 2, 3, 4, 5, 6, 0] (J148 a4 a5 a6 0) rfl
      · refine gx_aload_n C dX1_years_93 0 rfl ?_
        refine gj_iconst C dX1_years_94 ?_
        refine gx_callVI (t0 := 1) (As := [.int (iI 3)]) (rest := []) C E rfl dX1_years_95 (mx1_draws (cx_l X) g a0 3) (lw_V q1463 q1465 qs42 q125 q1466) hyx_X1_draws rfl hR (Nat.le_of_ble_eq_true rfl) (by decide) rfl rfl (Nat.zero_le _) (fun v95 => ?_)
        refine gj_if_ne (tgt := 128) C dX1_years_98 (by decide) (fun h98 => gj_neg h98 ?_) (fun h98 => gj_pos h98 ?_)
        · exact gj_to [0, 1, 2, 3, 4, 5, 6] (J128 a7) rfl
        · refine gx_aload_n C dX1_years_101 0 rfl ?_
          refine gx_gR (O := "BorrowedLives") (nm := "trial") (ds := "LBorrowedLives$State;") (fin := true) C E dX1_years_102 (by decide +kernel) (Or.inl q382) (fun _ h => h) (fun v102 => ?_)
          refine gx_gR (O := "BorrowedLives$State") (nm := "purse") (ds := "[I") (fin := true) C E dX1_years_105 (by decide +kernel) (Or.inr ⟨_, q292⟩) (fun _ h => h) (fun v105 => ?_)
          refine gj_iload C dX1_years_108 6 rfl ?_
          refine gx_iald C E dX1_years_110 (fun v110 => ?_)
          refine gj_bipush C dX1_years_111 rfl ?_
          refine gj_icmp_lt (tgt := 128) (b' := 20) C dX1_years_113 (by decide) rfl (by decide) (fun h113 => gj_pos h113 ?_) (fun h113 => gj_neg h113 ?_)
          · exact gj_to [0, 1, 2, 3, 4, 5, 6] (J128 a7) rfl
          · refine gx_aload_n C dX1_years_116 0 rfl ?_
            refine gx_gR (O := "BorrowedLives") (nm := "trial") (ds := "LBorrowedLives$State;") (fin := true) C E dX1_years_117 (by decide +kernel) (Or.inl q382) (fun _ h => h) (fun v117 => ?_)
            refine gx_gR (O := "BorrowedLives$State") (nm := "hidden") (ds := "[I") (fin := true) C E dX1_years_120 (by decide +kernel) (Or.inr ⟨_, q299⟩) (fun _ h => h) (fun v120 => ?_)
            refine gj_iload C dX1_years_123 6 rfl ?_
            refine gj_bipush C dX1_years_125 rfl ?_
            refine gx_iast C E dX1_years_127 ?_
            exact gj_to [0, 1, 2, 3, 4, 5, 6] (J128 a7) rfl
    unfold x1_years_b75
    refine gj_iload C dX1_years_75 5 rfl ?_
    refine gj_iload_n C dX1_years_77 1 rfl ?_
    refine gj_icmp_ge (tgt := 214) C dX1_years_78 (by decide) rfl rfl (fun h78 => gj_neg h78 ?_) (fun h78 => gj_pos h78 ?_)
    · refine gj_iload_n C dX1_years_214 2 rfl ?_
      refine gj_if_ne (tgt := 223) C dX1_years_215 (by decide) (fun h215 => gj_neg h215 ?_) (fun h215 => gj_pos h215 ?_)
      · refine gj_iload_n C dX1_years_223 2 rfl ?_
        refine gj_iconst C dX1_years_224 ?_
        refine gj_icmp_ne (tgt := 233) (b' := 1) C dX1_years_225 (by decide) rfl (by decide) (fun h225 => gj_neg h225 ?_) (fun h225 => gj_pos h225 ?_)
        · refine gx_aload_n C dX1_years_233 0 rfl ?_
          refine gx_gR (O := "BorrowedLives") (nm := "trial") (ds := "LBorrowedLives$State;") (fin := true) C E dX1_years_234 (by decide +kernel) (Or.inl q382) (fun _ h => h) (fun v234 => ?_)
          refine gx_gR (O := "BorrowedLives$State") (nm := "purse") (ds := "[I") (fin := true) C E dX1_years_237 (by decide +kernel) (Or.inr ⟨_, q292⟩) (fun _ h => h) (fun v237 => ?_)
          refine gx_callSI (As := [rv g v237]) (rest := []) C E dX1_years_240 (mx1_sum (cx_l X) g v237) (lw_S q1697 q1698 q125 q1699) hyx_X1_sum hR (Nat.le_of_ble_eq_true rfl) (by decide) rfl rfl (Nat.zero_le _) (fun v240 => ?_)
          exact gx_iret C hQ hr dX1_years_243
        · refine gj_iload C dX1_years_228 4 rfl ?_
          refine gj_goto (tgt := 243) C dX1_years_230 (by decide) ?_
          exact gx_iret C hQ hr dX1_years_243
      · refine gj_iload C dX1_years_218 3 rfl ?_
        refine gj_goto (tgt := 243) C dX1_years_220 (by decide) ?_
        exact gx_iret C hQ hr dX1_years_243
    · refine gj_iconst C dX1_years_81 ?_
      refine gj_istore (L' := [(7, _), (0, _), (2, _), (3, _), (4, _), (5, _), (6, _)]) C dX1_years_82 (by decide) rfl ?_
      exact gj_to [1, 2, 3, 4, 5, 6, 0] (J84 a4 a5 a6 0) rfl
  have J66 : ∀ (a0 : Option Nat) (a2 a3 : Int), GJ X 8 (xWo g σ0 (cx_s X).heap) Q (x1_years_j66 a0 a2 a3) 66 [(0, rv g a0), (2, .int (iI a2)), (3, .int (iI a3))] [] := by
    intro a0 a2 a3
    unfold x1_years_j66
    refine gj_iconst C dX1_years_66 ?_
    refine gj_istore (L' := [(4, _), (0, _), (2, _), (3, _)]) C dX1_years_67 (by decide) rfl ?_
    refine gj_iconst C dX1_years_69 ?_
    refine gj_istore (L' := [(5, _), (4, _), (0, _), (2, _), (3, _)]) C dX1_years_70 (by decide) rfl ?_
    refine gj_iconst C dX1_years_72 ?_
    refine gj_istore (L' := [(6, _), (5, _), (4, _), (0, _), (2, _), (3, _)]) C dX1_years_73 (by decide) rfl ?_
    exact gj_to [3, 4, 5, 2, 1, 0] (J75 a0 a2 a3 0 0 0) rfl
  unfold x1_years
  refine gj_iload_n C dX1_years_0 1 rfl ?_
  refine gj_iconst C dX1_years_1 ?_
  refine gj_sipush C dX1_years_2 rfl ?_
  refine gx_callSI (As := [.int (iI a1), .int (iI 0), .int (iI 9999)]) (rest := []) C E dX1_years_5 (mx1_in (cx_l X) g a1 0 9999) (lw_S q1197 q1198 q125 q1199) hyx_X1_in hR (Nat.le_of_ble_eq_true rfl) (by decide) rfl rfl (Nat.zero_le _) (fun v5 => ?_)
  refine gj_if_eq (tgt := 30) C dX1_years_8 (by decide) (fun h8 => gj_pos h8 ?_) (fun h8 => gj_neg h8 ?_)
  · refine gj_iconst C dX1_years_30 ?_
    exact gx_iret C hQ hr dX1_years_31
  · refine gj_iload_n C dX1_years_11 2 rfl ?_
    refine gj_iconst C dX1_years_12 ?_
    refine gj_bipush C dX1_years_13 rfl ?_
    refine gx_callSI (As := [.int (iI a2), .int (iI 1), .int (iI 20)]) (rest := []) C E dX1_years_15 (mx1_in (cx_l X) g a2 1 20) (lw_S q1197 q1198 q125 q1199) hyx_X1_in hR (Nat.le_of_ble_eq_true rfl) (by decide) rfl rfl (Nat.zero_le _) (fun v15 => ?_)
    refine gj_if_eq (tgt := 30) C dX1_years_18 (by decide) (fun h18 => gj_pos h18 ?_) (fun h18 => gj_neg h18 ?_)
    · refine gj_iconst C dX1_years_30 ?_
      exact gx_iret C hQ hr dX1_years_31
    · refine gj_iload_n C dX1_years_21 3 rfl ?_
      refine gj_iconst C dX1_years_22 ?_
      refine gj_iconst C dX1_years_23 ?_
      refine gx_callSI (As := [.int (iI a3), .int (iI 0), .int (iI 2)]) (rest := []) C E dX1_years_24 (mx1_in (cx_l X) g a3 0 2) (lw_S q1197 q1198 q125 q1199) hyx_X1_in hR (Nat.le_of_ble_eq_true rfl) (by decide) rfl rfl (Nat.zero_le _) (fun v24 => ?_)
      refine gj_if_ne (tgt := 32) C dX1_years_27 (by decide) (fun h27 => gj_neg h27 ?_) (fun h27 => gj_pos h27 ?_)
      · refine gx_aload_n C dX1_years_32 0 rfl ?_
        refine gj_iload_n C dX1_years_33 1 rfl ?_
        refine gj_i2l C dX1_years_34 ?_
        refine gx_pL (O := "BorrowedLives") (nm := "g") (ds := "J") (fin := false) C E dX1_years_35 (by decide +kernel) (Or.inl q393) (fun _ h => h) (fun h => by cases h) (by decide +kernel) ?_
        refine gx_aload_n C dX1_years_38 0 rfl ?_
        refine gx_gR (O := "BorrowedLives") (nm := "trial") (ds := "LBorrowedLives$State;") (fin := true) C E dX1_years_39 (by decide +kernel) (Or.inl q382) (fun _ h => h) (fun v39 => ?_)
        refine gx_aload_n C dX1_years_42 0 rfl ?_
        refine gx_gR (O := "BorrowedLives") (nm := "state") (ds := "LBorrowedLives$State;") (fin := true) C E dX1_years_43 (by decide +kernel) (Or.inl q380) (fun _ h => h) (fun v43 => ?_)
        refine gx_callVV (t0 := 4) (As := [rv g v43]) (rest := []) C E rfl dX1_years_46 (mx4_be (cx_l X) g v39 v43) (lw_V q1306 q1307 q1308 q131 q1309) hyx_X4_be rfl hR (Nat.le_of_ble_eq_true rfl) (by decide) rfl rfl (Nat.zero_le _) ?_
        refine gx_aload_n C dX1_years_49 0 rfl ?_
        refine gx_gR (O := "BorrowedLives") (nm := "trial") (ds := "LBorrowedLives$State;") (fin := true) C E dX1_years_50 (by decide +kernel) (Or.inl q382) (fun _ h => h) (fun v50 => ?_)
        refine gx_gI (O := "BorrowedLives$State") (nm := "away") (ds := "Z") (fin := false) C E dX1_years_53 (by decide +kernel) (Or.inr ⟨_, q309⟩) (fun _ h => h) (fun v53 => ?_)
        refine gj_if_eq (tgt := 66) C dX1_years_56 (by decide) (fun h56 => gj_pos h56 ?_) (fun h56 => gj_neg h56 ?_)
        · exact gj_to [0, 2, 3] (J66 a0 a2 a3) rfl
        · refine gx_aload_n C dX1_years_59 0 rfl ?_
          refine gx_gR (O := "BorrowedLives") (nm := "trial") (ds := "LBorrowedLives$State;") (fin := true) C E dX1_years_60 (by decide +kernel) (Or.inl q382) (fun _ h => h) (fun v60 => ?_)
          refine gx_callVV (t0 := 4) (As := []) (rest := []) C E rfl dX1_years_63 (mx4_allAreHome (cx_l X) g v60) (lw_V q1514 q370 q371 q131 q372) hyx_X4_allAreHome rfl hR (Nat.le_of_ble_eq_true rfl) (by decide) rfl rfl (Nat.zero_le _) ?_
          exact gj_to [0, 2, 3] (J66 a0 a2 a3) rfl
      · refine gj_iconst C dX1_years_30 ?_
        exact gx_iret C hQ hr dX1_years_31
def x29_init (a0 : Option Nat) : PT Hp Unit :=
  pbnd (xnn a0) fun _ =>
  pbnd (xnew 4) fun v5 =>
  pbnd (xnn v5) fun _ =>
  pbnd (x4_init v5) fun _ =>
  pbnd (xpR a0 25 0 v5) fun _ =>
  pbnd (xnewa 40 8) fun v18 =>
  pbnd (xpR a0 25 1 v18) fun _ =>
  pbnd (xnewa 40 8) fun v26 =>
  pbnd (xpR a0 25 2 v26) fun _ =>
  pbnd (xnewa 40 8) fun v34 =>
  pbnd (xpR a0 25 3 v34) fun _ =>
  pret ()
set_option maxHeartbeats 4000000 in
set_option maxRecDepth 100000 in
theorem mx29_init (l : Launch) (g : XG) (a0 : Option Nat) : XMet l g yX29_init cX29_init 1 (Option.none : Option Jvm.ClassFile.FieldType) (2) [rv g a0] (x29_init a0) rvV := by
  refine gx_start (by decide +kernel) (by have e := lg_sl_len [rv g a0]; simp only [List.map_cons, List.map_nil, List.sum_cons, List.sum_nil, rv_cat, cat_int, cat_long] at e; omega) (fun X Q σ0 hl C E hQ hR hr hnm => ?_)
  subst hl
  rw [show lv_args 0 [rv g a0] = [(0, rv g a0)] from by simp [lv_args, rv_cat, cat_int, cat_long]]
  show GJ X 1 (xWo g σ0 (cx_s X).heap) Q (x29_init a0) 0 [(0, rv g a0)] []
  unfold x29_init
  refine gx_aload_n C dX29_init_0 0 rfl ?_
  refine gx_objinit C E dX29_init_1 q1708 q180 q181 hR (Nat.le_of_ble_eq_true rfl) (Nat.zero_le _) ?_
  refine gx_aload_n C dX29_init_4 0 rfl ?_
  refine gx_new (t0 := 4) C E dX29_init_5 rfl q1709 q285 q131 (fun v5 => ?_)
  refine gx_dup C dX29_init_8 ?_
  refine gx_callINV (As := []) (rest := [rv g v5, rv g a0]) C E dX29_init_9 (mx4_init (cx_l X) g v5) (lw_meth q288) q131 q1710 q287 rfl hyx_X4_init hR (Nat.le_of_ble_eq_true rfl) (by decide) rfl rfl (by simp only [List.map_cons, List.map_nil, List.sum_cons, List.sum_nil, rv_cat, cat_int, cat_long]; decide) ?_
  refine gx_pR (O := "BorrowedLives$Mark") (nm := "state") (ds := "LBorrowedLives$State;") (fin := true) (ty := (.object "BorrowedLives$State")) C E dX29_init_12 (by decide +kernel) (Or.inl q1711) (fun _ h => h) (fun _ => ⟨hnm, rfl⟩) (by decide +kernel) (by decide) ?_
  refine gx_aload_n C dX29_init_15 0 rfl ?_
  refine gj_bipush C dX29_init_16 rfl ?_
  refine gx_newa (t0 := 0) C E dX29_init_18 (by decide) rfl q340 (by decide) rfl (fun v18 => ?_)
  refine gx_pR (O := "BorrowedLives$Mark") (nm := "life") (ds := "[I") (fin := true) (ty := (.array .int)) C E dX29_init_20 (by decide +kernel) (Or.inl q1713) (fun _ h => h) (fun _ => ⟨hnm, rfl⟩) (by decide +kernel) (by decide) ?_
  refine gx_aload_n C dX29_init_23 0 rfl ?_
  refine gj_bipush C dX29_init_24 rfl ?_
  refine gx_newa (t0 := 0) C E dX29_init_26 (by decide) rfl q340 (by decide) rfl (fun v26 => ?_)
  refine gx_pR (O := "BorrowedLives$Mark") (nm := "day") (ds := "[I") (fin := true) (ty := (.array .int)) C E dX29_init_28 (by decide +kernel) (Or.inl q1715) (fun _ h => h) (fun _ => ⟨hnm, rfl⟩) (by decide +kernel) (by decide) ?_
  refine gx_aload_n C dX29_init_31 0 rfl ?_
  refine gj_bipush C dX29_init_32 rfl ?_
  refine gx_newa (t0 := 0) C E dX29_init_34 (by decide) rfl q340 (by decide) rfl (fun v34 => ?_)
  refine gx_pR (O := "BorrowedLives$Mark") (nm := "purse") (ds := "[I") (fin := true) (ty := (.array .int)) C E dX29_init_36 (by decide +kernel) (Or.inl q1717) (fun _ h => h) (fun _ => ⟨hnm, rfl⟩) (by decide +kernel) (by decide) ?_
  exact gx_vret C hQ hr dX29_init_39
def x1_mark_j46 (a0 : Option Nat) (a1 a2 : Int) : PT Hp Int :=
  pbnd (xgR a0 1 22) fun v47 =>
  pbnd (xldR v47 46 a1) fun v51 =>
  pite (w32 a2 = 0) (
    pbnd (xgR v51 25 0) fun v118 =>
    pbnd (xgR a0 1 4) fun v122 =>
    pbnd (xrecv v118 4) fun _ =>
    pbnd (x4_be v118 v122) fun _ =>
    pbnd (xgR a0 1 16) fun v129 =>
    pbnd (xgR v51 25 1) fun v133 =>
    pbnd (x1_copies v129 v133) fun _ =>
    pbnd (xgR a0 1 17) fun v140 =>
    pbnd (xgR v51 25 2) fun v144 =>
    pbnd (x1_copies v140 v144) fun _ =>
    pbnd (xgR a0 1 18) fun v151 =>
    pbnd (xgR v51 25 3) fun v155 =>
    pbnd (x1_copies v151 v155) fun _ =>
    pbnd (xgI a0 1 19) fun v163 =>
    pbnd (xpI v51 25 4 v163) fun _ =>
    pbnd (pzo 1) fun _ => pret 1) (
    pbnd (xgR a0 1 4) fun v58 =>
    pbnd (xgR v51 25 0) fun v62 =>
    pbnd (xrecv v58 4) fun _ =>
    pbnd (x4_be v58 v62) fun _ =>
    pbnd (xgR v51 25 1) fun v69 =>
    pbnd (xgR a0 1 16) fun v73 =>
    pbnd (x1_copies v69 v73) fun _ =>
    pbnd (xgR v51 25 2) fun v80 =>
    pbnd (xgR a0 1 17) fun v84 =>
    pbnd (x1_copies v80 v84) fun _ =>
    pbnd (xgR v51 25 3) fun v91 =>
    pbnd (xgR a0 1 18) fun v95 =>
    pbnd (x1_copies v91 v95) fun _ =>
    pbnd (xgI v51 25 4) fun v103 =>
    pbnd (xpI a0 1 19 v103) fun _ =>
    pbnd (xpI a0 1 11 0) fun _ =>
    pbnd (pzo 1) fun _ => pret 1)
def x1_mark_j24 (a0 : Option Nat) (a1 a2 : Int) : PT Hp Int :=
  pbnd (xgR a0 1 22) fun v25 =>
  pbnd (xldR v25 46 a1) fun v29 =>
  pite (v29 = none) (
    pbnd (xgR a0 1 22) fun v34 =>
    pbnd (xnew 25) fun v38 =>
    pbnd (xnn v38) fun _ =>
    pbnd (x29_init v38) fun _ =>
    pbnd (xstR v34 46 a1 v38) fun _ =>
    x1_mark_j46 a0 a1 a2) (
    x1_mark_j46 a0 a1 a2)
def x1_mark (a0 : Option Nat) (a1 a2 : Int) : PT Hp Int :=
  pbnd (x1_in a1 0 3) fun v3 =>
  pite (w32 v3 = 0) (
    pbnd (pzo 0) fun _ => pret 0) (
    pite (w32 a2 = 0) (
      x1_mark_j24 a0 a1 a2) (
      pbnd (xgR a0 1 22) fun v14 =>
      pbnd (xldR v14 46 a1) fun v18 =>
      pite (v18 = none) (
        pbnd (pzo 0) fun _ => pret 0) (
        x1_mark_j24 a0 a1 a2)))
set_option maxHeartbeats 4000000 in
set_option maxRecDepth 100000 in
theorem mx1_mark (l : Launch) (g : XG) (a0 : Option Nat) (a1 a2 : Int) : XMet l g yX1_mark cX1_mark 4 (Option.some Jvm.ClassFile.FieldType.boolean) (3) [rv g a0, .int (iI a1), .int (iI a2)] (x1_mark a0 a1 a2) rvI := by
  refine gx_start (by decide +kernel) (by have e := lg_sl_len [rv g a0, .int (iI a1), .int (iI a2)]; simp only [List.map_cons, List.map_nil, List.sum_cons, List.sum_nil, rv_cat, cat_int, cat_long] at e; omega) (fun X Q σ0 hl C E hQ hR hr hnm => ?_)
  subst hl
  rw [show lv_args 0 [rv g a0, .int (iI a1), .int (iI a2)] = [(0, rv g a0), (1, .int (iI a1)), (2, .int (iI a2))] from by simp [lv_args, rv_cat, cat_int, cat_long]]
  show GJ X 4 (xWo g σ0 (cx_s X).heap) Q (x1_mark a0 a1 a2) 0 [(0, rv g a0), (1, .int (iI a1)), (2, .int (iI a2))] []
  have J46 : ∀ (a0 : Option Nat) (a1 a2 : Int), GJ X 4 (xWo g σ0 (cx_s X).heap) Q (x1_mark_j46 a0 a1 a2) 46 [(0, rv g a0), (1, .int (iI a1)), (2, .int (iI a2))] [] := by
    intro a0 a1 a2
    unfold x1_mark_j46
    refine gx_aload_n C dX1_mark_46 0 rfl ?_
    refine gx_gR (O := "BorrowedLives") (nm := "marks") (ds := "[LBorrowedLives$Mark;") (fin := true) C E dX1_mark_47 (by decide +kernel) (Or.inl q405) (fun _ h => h) (fun v47 => ?_)
    refine gj_iload_n C dX1_mark_50 1 rfl ?_
    refine gx_aald (t0 := 6) C E dX1_mark_51 (by decide) (by decide) rfl rfl (fun v51 => ?_)
    refine gx_astore_n (L' := [(3, _), (0, _), (1, _), (2, _)]) C dX1_mark_52 (by decide) rfl ?_
    refine gj_iload_n C dX1_mark_53 3 rfl ?_
    refine gj_if_eq (tgt := 117) C dX1_mark_54 (by decide) (fun h54 => gj_pos h54 ?_) (fun h54 => gj_neg h54 ?_)
    · refine gx_aload_n C dX1_mark_117 0 rfl ?_
      refine gx_gR (O := "BorrowedLives$Mark") (nm := "state") (ds := "LBorrowedLives$State;") (fin := true) C E dX1_mark_118 (by decide +kernel) (Or.inr ⟨_, q1712⟩) (fun _ h => h) (fun v118 => ?_)
      refine gx_aload_n C dX1_mark_121 1 rfl ?_
      refine gx_gR (O := "BorrowedLives") (nm := "state") (ds := "LBorrowedLives$State;") (fin := true) C E dX1_mark_122 (by decide +kernel) (Or.inl q380) (fun _ h => h) (fun v122 => ?_)
      refine gx_callVV (t0 := 4) (As := [rv g v122]) (rest := []) C E rfl dX1_mark_125 (mx4_be (cx_l X) g v118 v122) (lw_V q1306 q1307 q1308 q131 q1309) hyx_X4_be rfl hR (Nat.le_of_ble_eq_true rfl) (by decide) rfl rfl (Nat.zero_le _) ?_
      refine gx_aload_n C dX1_mark_128 1 rfl ?_
      refine gx_gR (O := "BorrowedLives") (nm := "taleLife") (ds := "[I") (fin := true) C E dX1_mark_129 (by decide +kernel) (Or.inl q397) (fun _ h => h) (fun v129 => ?_)
      refine gx_aload_n C dX1_mark_132 0 rfl ?_
      refine gx_gR (O := "BorrowedLives$Mark") (nm := "life") (ds := "[I") (fin := true) C E dX1_mark_133 (by decide +kernel) (Or.inr ⟨_, q1714⟩) (fun _ h => h) (fun v133 => ?_)
      refine gx_callSV (As := [rv g v129, rv g v133]) (rest := []) C E dX1_mark_136 (mx1_copies (cx_l X) g v129 v133) (lw_S q1398 q1311 q125 q1312) hyx_X1_copies hR (Nat.le_of_ble_eq_true rfl) (by decide) rfl rfl (Nat.zero_le _) ?_
      refine gx_aload_n C dX1_mark_139 1 rfl ?_
      refine gx_gR (O := "BorrowedLives") (nm := "taleDay") (ds := "[I") (fin := true) C E dX1_mark_140 (by decide +kernel) (Or.inl q398) (fun _ h => h) (fun v140 => ?_)
      refine gx_aload_n C dX1_mark_143 0 rfl ?_
      refine gx_gR (O := "BorrowedLives$Mark") (nm := "day") (ds := "[I") (fin := true) C E dX1_mark_144 (by decide +kernel) (Or.inr ⟨_, q1716⟩) (fun _ h => h) (fun v144 => ?_)
      refine gx_callSV (As := [rv g v140, rv g v144]) (rest := []) C E dX1_mark_147 (mx1_copies (cx_l X) g v140 v144) (lw_S q1398 q1311 q125 q1312) hyx_X1_copies hR (Nat.le_of_ble_eq_true rfl) (by decide) rfl rfl (Nat.zero_le _) ?_
      refine gx_aload_n C dX1_mark_150 1 rfl ?_
      refine gx_gR (O := "BorrowedLives") (nm := "talePurse") (ds := "[I") (fin := true) C E dX1_mark_151 (by decide +kernel) (Or.inl q399) (fun _ h => h) (fun v151 => ?_)
      refine gx_aload_n C dX1_mark_154 0 rfl ?_
      refine gx_gR (O := "BorrowedLives$Mark") (nm := "purse") (ds := "[I") (fin := true) C E dX1_mark_155 (by decide +kernel) (Or.inr ⟨_, q1718⟩) (fun _ h => h) (fun v155 => ?_)
      refine gx_callSV (As := [rv g v151, rv g v155]) (rest := []) C E dX1_mark_158 (mx1_copies (cx_l X) g v151 v155) (lw_S q1398 q1311 q125 q1312) hyx_X1_copies hR (Nat.le_of_ble_eq_true rfl) (by decide) rfl rfl (Nat.zero_le _) ?_
      refine gx_aload_n C dX1_mark_161 0 rfl ?_
      refine gx_aload_n C dX1_mark_162 1 rfl ?_
      refine gx_gI (O := "BorrowedLives") (nm := "tales") (ds := "I") (fin := false) C E dX1_mark_163 (by decide +kernel) (Or.inl q400) (fun _ h => h) (fun v163 => ?_)
      refine gx_pI (O := "BorrowedLives$Mark") (nm := "tales") (ds := "I") (fin := false) (ty := .int) C E dX1_mark_166 (by decide +kernel) (Or.inr ⟨_, q1719⟩) (fun _ h => h) (fun h => by cases h) (by decide +kernel) (inty_int _) ?_
      refine gj_iconst C dX1_mark_169 ?_
      exact gx_zret C hQ hr dX1_mark_170
    · refine gx_aload_n C dX1_mark_57 1 rfl ?_
      refine gx_gR (O := "BorrowedLives") (nm := "state") (ds := "LBorrowedLives$State;") (fin := true) C E dX1_mark_58 (by decide +kernel) (Or.inl q380) (fun _ h => h) (fun v58 => ?_)
      refine gx_aload_n C dX1_mark_61 0 rfl ?_
      refine gx_gR (O := "BorrowedLives$Mark") (nm := "state") (ds := "LBorrowedLives$State;") (fin := true) C E dX1_mark_62 (by decide +kernel) (Or.inr ⟨_, q1712⟩) (fun _ h => h) (fun v62 => ?_)
      refine gx_callVV (t0 := 4) (As := [rv g v62]) (rest := []) C E rfl dX1_mark_65 (mx4_be (cx_l X) g v58 v62) (lw_V q1306 q1307 q1308 q131 q1309) hyx_X4_be rfl hR (Nat.le_of_ble_eq_true rfl) (by decide) rfl rfl (Nat.zero_le _) ?_
      refine gx_aload_n C dX1_mark_68 0 rfl ?_
      refine gx_gR (O := "BorrowedLives$Mark") (nm := "life") (ds := "[I") (fin := true) C E dX1_mark_69 (by decide +kernel) (Or.inr ⟨_, q1714⟩) (fun _ h => h) (fun v69 => ?_)
      refine gx_aload_n C dX1_mark_72 1 rfl ?_
      refine gx_gR (O := "BorrowedLives") (nm := "taleLife") (ds := "[I") (fin := true) C E dX1_mark_73 (by decide +kernel) (Or.inl q397) (fun _ h => h) (fun v73 => ?_)
      refine gx_callSV (As := [rv g v69, rv g v73]) (rest := []) C E dX1_mark_76 (mx1_copies (cx_l X) g v69 v73) (lw_S q1398 q1311 q125 q1312) hyx_X1_copies hR (Nat.le_of_ble_eq_true rfl) (by decide) rfl rfl (Nat.zero_le _) ?_
      refine gx_aload_n C dX1_mark_79 0 rfl ?_
      refine gx_gR (O := "BorrowedLives$Mark") (nm := "day") (ds := "[I") (fin := true) C E dX1_mark_80 (by decide +kernel) (Or.inr ⟨_, q1716⟩) (fun _ h => h) (fun v80 => ?_)
      refine gx_aload_n C dX1_mark_83 1 rfl ?_
      refine gx_gR (O := "BorrowedLives") (nm := "taleDay") (ds := "[I") (fin := true) C E dX1_mark_84 (by decide +kernel) (Or.inl q398) (fun _ h => h) (fun v84 => ?_)
      refine gx_callSV (As := [rv g v80, rv g v84]) (rest := []) C E dX1_mark_87 (mx1_copies (cx_l X) g v80 v84) (lw_S q1398 q1311 q125 q1312) hyx_X1_copies hR (Nat.le_of_ble_eq_true rfl) (by decide) rfl rfl (Nat.zero_le _) ?_
      refine gx_aload_n C dX1_mark_90 0 rfl ?_
      refine gx_gR (O := "BorrowedLives$Mark") (nm := "purse") (ds := "[I") (fin := true) C E dX1_mark_91 (by decide +kernel) (Or.inr ⟨_, q1718⟩) (fun _ h => h) (fun v91 => ?_)
      refine gx_aload_n C dX1_mark_94 1 rfl ?_
      refine gx_gR (O := "BorrowedLives") (nm := "talePurse") (ds := "[I") (fin := true) C E dX1_mark_95 (by decide +kernel) (Or.inl q399) (fun _ h => h) (fun v95 => ?_)
      refine gx_callSV (As := [rv g v91, rv g v95]) (rest := []) C E dX1_mark_98 (mx1_copies (cx_l X) g v91 v95) (lw_S q1398 q1311 q125 q1312) hyx_X1_copies hR (Nat.le_of_ble_eq_true rfl) (by decide) rfl rfl (Nat.zero_le _) ?_
      refine gx_aload_n C dX1_mark_101 1 rfl ?_
      refine gx_aload_n C dX1_mark_102 0 rfl ?_
      refine gx_gI (O := "BorrowedLives$Mark") (nm := "tales") (ds := "I") (fin := false) C E dX1_mark_103 (by decide +kernel) (Or.inr ⟨_, q1719⟩) (fun _ h => h) (fun v103 => ?_)
      refine gx_pI (O := "BorrowedLives") (nm := "tales") (ds := "I") (fin := false) (ty := .int) C E dX1_mark_106 (by decide +kernel) (Or.inl q400) (fun _ h => h) (fun h => by cases h) (by decide +kernel) (inty_int _) ?_
      refine gx_aload_n C dX1_mark_109 1 rfl ?_
      refine gj_iconst C dX1_mark_110 ?_
      refine gx_pI (O := "BorrowedLives") (nm := "done") (ds := "I") (fin := false) (ty := .int) C E dX1_mark_111 (by decide +kernel) (Or.inl q391) (fun _ h => h) (fun h => by cases h) (by decide +kernel) (inty_int _) ?_
      refine gj_goto (tgt := 169) C dX1_mark_114 (by decide) ?_
      refine gj_iconst C dX1_mark_169 ?_
      exact gx_zret C hQ hr dX1_mark_170
  have J24 : ∀ (a0 : Option Nat) (a1 a2 : Int), GJ X 4 (xWo g σ0 (cx_s X).heap) Q (x1_mark_j24 a0 a1 a2) 24 [(0, rv g a0), (1, .int (iI a1)), (2, .int (iI a2))] [] := by
    intro a0 a1 a2
    unfold x1_mark_j24
    refine gx_aload_n C dX1_mark_24 0 rfl ?_
    refine gx_gR (O := "BorrowedLives") (nm := "marks") (ds := "[LBorrowedLives$Mark;") (fin := true) C E dX1_mark_25 (by decide +kernel) (Or.inl q405) (fun _ h => h) (fun v25 => ?_)
    refine gj_iload_n C dX1_mark_28 1 rfl ?_
    refine gx_aald (t0 := 6) C E dX1_mark_29 (by decide) (by decide) rfl rfl (fun v29 => ?_)
    refine gx_ifnonnull (tgt := 46) C dX1_mark_30 (by decide) (fun h30 => gj_neg h30 ?_) (fun h30 => gj_pos h30 ?_)
    · exact gj_to [0, 1, 2] (J46 a0 a1 a2) rfl
    · refine gx_aload_n C dX1_mark_33 0 rfl ?_
      refine gx_gR (O := "BorrowedLives") (nm := "marks") (ds := "[LBorrowedLives$Mark;") (fin := true) C E dX1_mark_34 (by decide +kernel) (Or.inl q405) (fun _ h => h) (fun v34 => ?_)
      refine gj_iload_n C dX1_mark_37 1 rfl ?_
      refine gx_new (t0 := 25) C E dX1_mark_38 rfl q344 q1704 q173 (fun v38 => ?_)
      refine gx_dup C dX1_mark_41 ?_
      refine gx_callINV (As := []) (rest := [rv g v38, .int (iI a1), rv g v34]) C E dX1_mark_42 (mx29_init (cx_l X) g v38) (lw_meth q1707) q173 q1705 q1706 rfl hyx_X29_init hR (Nat.le_of_ble_eq_true rfl) (by decide) rfl rfl (by simp only [List.map_cons, List.map_nil, List.sum_cons, List.sum_nil, rv_cat, cat_int, cat_long]; decide) ?_
      refine gx_aast (t0 := 6) C E dX1_mark_45 (by decide) (by decide) rfl xcast46 xelt46 ?_
      exact gj_to [0, 1, 2] (J46 a0 a1 a2) rfl
  unfold x1_mark
  refine gj_iload_n C dX1_mark_0 1 rfl ?_
  refine gj_iconst C dX1_mark_1 ?_
  refine gj_iconst C dX1_mark_2 ?_
  refine gx_callSI (As := [.int (iI a1), .int (iI 0), .int (iI 3)]) (rest := []) C E dX1_mark_3 (mx1_in (cx_l X) g a1 0 3) (lw_S q1197 q1198 q125 q1199) hyx_X1_in hR (Nat.le_of_ble_eq_true rfl) (by decide) rfl rfl (Nat.zero_le _) (fun v3 => ?_)
  refine gj_if_eq (tgt := 22) C dX1_mark_6 (by decide) (fun h6 => gj_pos h6 ?_) (fun h6 => gj_neg h6 ?_)
  · refine gj_iconst C dX1_mark_22 ?_
    exact gx_zret C hQ hr dX1_mark_23
  · refine gj_iload_n C dX1_mark_9 2 rfl ?_
    refine gj_if_eq (tgt := 24) C dX1_mark_10 (by decide) (fun h10 => gj_pos h10 ?_) (fun h10 => gj_neg h10 ?_)
    · exact gj_to [0, 1, 2] (J24 a0 a1 a2) rfl
    · refine gx_aload_n C dX1_mark_13 0 rfl ?_
      refine gx_gR (O := "BorrowedLives") (nm := "marks") (ds := "[LBorrowedLives$Mark;") (fin := true) C E dX1_mark_14 (by decide +kernel) (Or.inl q405) (fun _ h => h) (fun v14 => ?_)
      refine gj_iload_n C dX1_mark_17 1 rfl ?_
      refine gx_aald (t0 := 6) C E dX1_mark_18 (by decide) (by decide) rfl rfl (fun v18 => ?_)
      refine gx_ifnonnull (tgt := 24) C dX1_mark_19 (by decide) (fun h19 => gj_neg h19 ?_) (fun h19 => gj_pos h19 ?_)
      · exact gj_to [0, 1, 2] (J24 a0 a1 a2) rfl
      · refine gj_iconst C dX1_mark_22 ?_
        exact gx_zret C hQ hr dX1_mark_23
def x1_count (a0 : Option Nat) (a1 : Int) : PT Hp Int :=
  pite (w32 a1 = 0) (
    pbnd (xrecv a0 1) fun _ =>
    pbnd (x1_people a0) fun v69 =>
    pret v69) (
    pite (w32 a1 = 1) (
      pbnd (xgR a0 1 2) fun v74 =>
      pbnd (xgI v74 3 1) fun v77 =>
      pret v77) (
      pite (w32 a1 = 2) (
        pbnd (xgR a0 1 2) fun v82 =>
        pbnd (xrecv v82 3) fun _ =>
        pbnd (x3_sign v82) fun v85 =>
        pret v85) (
        pite (w32 a1 = 3) (
          pbnd (xgR a0 1 4) fun v90 =>
          pbnd (xgI v90 4 7) fun v93 =>
          plet (if w32 v93 = 0 then 0 else 1) fun v104 =>
          pret v104) (
          pite (w32 a1 = 4) (
            pbnd (xgR a0 1 4) fun v106 =>
            pbnd (xgI v106 4 8) fun v109 =>
            pret v109) (
            pite (w32 a1 = 5) (
              pbnd (xgR a0 1 4) fun v114 =>
              pbnd (xgI v114 4 9) fun v117 =>
              pret v117) (
              pite (w32 a1 = 6) (
                pbnd (xgR a0 1 4) fun v122 =>
                pbnd (xgI v122 4 10) fun v125 =>
                pret v125) (
                pite (w32 a1 = 7) (
                  pbnd (xgR a0 1 4) fun v130 =>
                  pbnd (xgR v130 4 0) fun v133 =>
                  pbnd (x1_sum v133) fun v136 =>
                  pret v136) (
                  pite (w32 a1 = 8) (
                    pbnd (xgR a0 1 4) fun v141 =>
                    pbnd (xgR v141 4 1) fun v144 =>
                    pbnd (x1_sum v144) fun v147 =>
                    pret v147) (
                    pite (w32 a1 = 9) (
                      pbnd (xgR a0 1 3) fun v152 =>
                      pbnd (xrecv v152 26) fun _ =>
                      pbnd (j2_size v152) fun v155 =>
                      pret v155) (
                      pite (w32 a1 = 10) (
                        pbnd (xgI a0 1 19) fun v160 =>
                        pret v160) (
                        pite (w32 a1 = 11) (
                          pbnd (xgI a0 1 11) fun v165 =>
                          pret v165) (
                          pite (w32 a1 = 12) (
                            pbnd (xgI a0 1 8) fun v170 =>
                            pret v170) (
                            pret (-1))))))))))))))
set_option maxHeartbeats 4000000 in
set_option maxRecDepth 100000 in
theorem mx1_count (l : Launch) (g : XG) (a0 : Option Nat) (a1 : Int) : XMet l g yX1_count cX1_count 2 (Option.some Jvm.ClassFile.FieldType.int) (2) [rv g a0, .int (iI a1)] (x1_count a0 a1) rvI := by
  refine gx_start (by decide +kernel) (by have e := lg_sl_len [rv g a0, .int (iI a1)]; simp only [List.map_cons, List.map_nil, List.sum_cons, List.sum_nil, rv_cat, cat_int, cat_long] at e; omega) (fun X Q σ0 hl C E hQ hR hr hnm => ?_)
  subst hl
  rw [show lv_args 0 [rv g a0, .int (iI a1)] = [(0, rv g a0), (1, .int (iI a1))] from by simp [lv_args, rv_cat, cat_int, cat_long]]
  show GJ X 2 (xWo g σ0 (cx_s X).heap) Q (x1_count a0 a1) 0 [(0, rv g a0), (1, .int (iI a1))] []
  unfold x1_count
  refine gj_iload_n C dX1_count_0 1 rfl ?_
  by_cases h1_0 : w32 a1 = 0
  · refine gj_pos h1_0 ?_
    refine gj_tin (tgt := 68) C 0 h1_0 dX1_count_1 (by decide) (by decide) rfl (by decide) ?_
    refine gx_aload_n C dX1_count_68 0 rfl ?_
    refine gx_callVI (t0 := 1) (As := []) (rest := []) C E rfl dX1_count_69 (mx1_people (cx_l X) g a0) (lw_V q1192 q1194 qs29 q125 q1195) hyx_X1_people rfl hR (Nat.le_of_ble_eq_true rfl) (by decide) rfl rfl (Nat.zero_le _) (fun v69 => ?_)
    exact gx_iret C hQ hr dX1_count_72
  · refine gj_neg h1_0 ?_
    by_cases h1_1 : w32 a1 = 1
    · refine gj_pos h1_1 ?_
      refine gj_tin (tgt := 73) C 1 h1_1 dX1_count_1 (by decide) (by decide) rfl (by decide) ?_
      refine gx_aload_n C dX1_count_73 0 rfl ?_
      refine gx_gR (O := "BorrowedLives") (nm := "town") (ds := "LBorrowedLives$Town;") (fin := false) C E dX1_count_74 (by decide +kernel) (Or.inl q377) (fun _ h => h) (fun v74 => ?_)
      refine gx_gI (O := "BorrowedLives$Town") (nm := "bars") (ds := "I") (fin := false) C E dX1_count_77 (by decide +kernel) (Or.inr ⟨_, q256⟩) (fun _ h => h) (fun v77 => ?_)
      exact gx_iret C hQ hr dX1_count_80
    · refine gj_neg h1_1 ?_
      by_cases h1_2 : w32 a1 = 2
      · refine gj_pos h1_2 ?_
        refine gj_tin (tgt := 81) C 2 h1_2 dX1_count_1 (by decide) (by decide) rfl (by decide) ?_
        refine gx_aload_n C dX1_count_81 0 rfl ?_
        refine gx_gR (O := "BorrowedLives") (nm := "town") (ds := "LBorrowedLives$Town;") (fin := false) C E dX1_count_82 (by decide +kernel) (Or.inl q377) (fun _ h => h) (fun v82 => ?_)
        refine gx_callVI (t0 := 3) (As := []) (rest := []) C E rfl dX1_count_85 (mx3_sign (cx_l X) g v82) (lw_V q1317 q1318 q1319 q127 q1320) hyx_X3_sign rfl hR (Nat.le_of_ble_eq_true rfl) (by decide) rfl rfl (Nat.zero_le _) (fun v85 => ?_)
        exact gx_iret C hQ hr dX1_count_88
      · refine gj_neg h1_2 ?_
        by_cases h1_3 : w32 a1 = 3
        · refine gj_pos h1_3 ?_
          refine gj_tin (tgt := 89) C 3 h1_3 dX1_count_1 (by decide) (by decide) rfl (by decide) ?_
          refine gx_aload_n C dX1_count_89 0 rfl ?_
          refine gx_gR (O := "BorrowedLives") (nm := "state") (ds := "LBorrowedLives$State;") (fin := true) C E dX1_count_90 (by decide +kernel) (Or.inl q380) (fun _ h => h) (fun v90 => ?_)
          refine gx_gI (O := "BorrowedLives$State") (nm := "away") (ds := "Z") (fin := false) C E dX1_count_93 (by decide +kernel) (Or.inr ⟨_, q309⟩) (fun _ h => h) (fun v93 => ?_)
          refine gj_dia (J := 104) (L := [(0, rv g a0), (1, .int (iI a1))]) (st := []) (fun v104 => ?_) (fun t hJ => ?_)
          · skip
            exact gx_iret C hQ hr dX1_count_104
          · refine gj_if_eq (tgt := 103) C dX1_count_96 (by decide) (fun h96 => ?_) (fun h96 => ?_)
            · refine gj_iconst C dX1_count_103 ?_
              exact (by rw [if_pos h96] at hJ; exact hJ)
            · refine gj_iconst C dX1_count_99 ?_
              refine gj_goto (tgt := 104) C dX1_count_100 (by decide) ?_
              exact (by rw [if_neg h96] at hJ; exact hJ)
        · refine gj_neg h1_3 ?_
          by_cases h1_4 : w32 a1 = 4
          · refine gj_pos h1_4 ?_
            refine gj_tin (tgt := 105) C 4 h1_4 dX1_count_1 (by decide) (by decide) rfl (by decide) ?_
            refine gx_aload_n C dX1_count_105 0 rfl ?_
            refine gx_gR (O := "BorrowedLives") (nm := "state") (ds := "LBorrowedLives$State;") (fin := true) C E dX1_count_106 (by decide +kernel) (Or.inl q380) (fun _ h => h) (fun v106 => ?_)
            refine gx_gI (O := "BorrowedLives$State") (nm := "days") (ds := "I") (fin := false) C E dX1_count_109 (by decide +kernel) (Or.inr ⟨_, q312⟩) (fun _ h => h) (fun v109 => ?_)
            exact gx_iret C hQ hr dX1_count_112
          · refine gj_neg h1_4 ?_
            by_cases h1_5 : w32 a1 = 5
            · refine gj_pos h1_5 ?_
              refine gj_tin (tgt := 113) C 5 h1_5 dX1_count_1 (by decide) (by decide) rfl (by decide) ?_
              refine gx_aload_n C dX1_count_113 0 rfl ?_
              refine gx_gR (O := "BorrowedLives") (nm := "state") (ds := "LBorrowedLives$State;") (fin := true) C E dX1_count_114 (by decide +kernel) (Or.inl q380) (fun _ h => h) (fun v114 => ?_)
              refine gx_gI (O := "BorrowedLives$State") (nm := "homes") (ds := "I") (fin := false) C E dX1_count_117 (by decide +kernel) (Or.inr ⟨_, q314⟩) (fun _ h => h) (fun v117 => ?_)
              exact gx_iret C hQ hr dX1_count_120
            · refine gj_neg h1_5 ?_
              by_cases h1_6 : w32 a1 = 6
              · refine gj_pos h1_6 ?_
                refine gj_tin (tgt := 121) C 6 h1_6 dX1_count_1 (by decide) (by decide) rfl (by decide) ?_
                refine gx_aload_n C dX1_count_121 0 rfl ?_
                refine gx_gR (O := "BorrowedLives") (nm := "state") (ds := "LBorrowedLives$State;") (fin := true) C E dX1_count_122 (by decide +kernel) (Or.inl q380) (fun _ h => h) (fun v122 => ?_)
                refine gx_gI (O := "BorrowedLives$State") (nm := "harm") (ds := "I") (fin := false) C E dX1_count_125 (by decide +kernel) (Or.inr ⟨_, q316⟩) (fun _ h => h) (fun v125 => ?_)
                exact gx_iret C hQ hr dX1_count_128
              · refine gj_neg h1_6 ?_
                by_cases h1_7 : w32 a1 = 7
                · refine gj_pos h1_7 ?_
                  refine gj_tin (tgt := 129) C 7 h1_7 dX1_count_1 (by decide) (by decide) rfl (by decide) ?_
                  refine gx_aload_n C dX1_count_129 0 rfl ?_
                  refine gx_gR (O := "BorrowedLives") (nm := "state") (ds := "LBorrowedLives$State;") (fin := true) C E dX1_count_130 (by decide +kernel) (Or.inl q380) (fun _ h => h) (fun v130 => ?_)
                  refine gx_gR (O := "BorrowedLives$State") (nm := "purse") (ds := "[I") (fin := true) C E dX1_count_133 (by decide +kernel) (Or.inr ⟨_, q292⟩) (fun _ h => h) (fun v133 => ?_)
                  refine gx_callSI (As := [rv g v133]) (rest := []) C E dX1_count_136 (mx1_sum (cx_l X) g v133) (lw_S q1697 q1698 q125 q1699) hyx_X1_sum hR (Nat.le_of_ble_eq_true rfl) (by decide) rfl rfl (Nat.zero_le _) (fun v136 => ?_)
                  exact gx_iret C hQ hr dX1_count_139
                · refine gj_neg h1_7 ?_
                  by_cases h1_8 : w32 a1 = 8
                  · refine gj_pos h1_8 ?_
                    refine gj_tin (tgt := 140) C 8 h1_8 dX1_count_1 (by decide) (by decide) rfl (by decide) ?_
                    refine gx_aload_n C dX1_count_140 0 rfl ?_
                    refine gx_gR (O := "BorrowedLives") (nm := "state") (ds := "LBorrowedLives$State;") (fin := true) C E dX1_count_141 (by decide +kernel) (Or.inl q380) (fun _ h => h) (fun v141 => ?_)
                    refine gx_gR (O := "BorrowedLives$State") (nm := "debt") (ds := "[I") (fin := true) C E dX1_count_144 (by decide +kernel) (Or.inr ⟨_, q294⟩) (fun _ h => h) (fun v144 => ?_)
                    refine gx_callSI (As := [rv g v144]) (rest := []) C E dX1_count_147 (mx1_sum (cx_l X) g v144) (lw_S q1697 q1698 q125 q1699) hyx_X1_sum hR (Nat.le_of_ble_eq_true rfl) (by decide) rfl rfl (Nat.zero_le _) (fun v147 => ?_)
                    exact gx_iret C hQ hr dX1_count_150
                  · refine gj_neg h1_8 ?_
                    by_cases h1_9 : w32 a1 = 9
                    · refine gj_pos h1_9 ?_
                      refine gj_tin (tgt := 151) C 9 h1_9 dX1_count_1 (by decide) (by decide) rfl (by decide) ?_
                      refine gx_aload_n C dX1_count_151 0 rfl ?_
                      refine gx_gR (O := "BorrowedLives") (nm := "lines") (ds := "Ljava/util/ArrayList;") (fin := false) C E dX1_count_152 (by decide +kernel) (Or.inl q378) (fun _ h => h) (fun v152 => ?_)
                      refine gx_callVI (t0 := 26) (As := []) (rest := []) C E rfl dX1_count_155 (mj2_size (cx_l X) g v152) (lw_V q1196 q351 q352 q130 q353) hyx_J2_size rfl hR (Nat.le_of_ble_eq_true rfl) (by decide) rfl rfl (Nat.zero_le _) (fun v155 => ?_)
                      exact gx_iret C hQ hr dX1_count_158
                    · refine gj_neg h1_9 ?_
                      by_cases h1_10 : w32 a1 = 10
                      · refine gj_pos h1_10 ?_
                        refine gj_tin (tgt := 159) C 10 h1_10 dX1_count_1 (by decide) (by decide) rfl (by decide) ?_
                        refine gx_aload_n C dX1_count_159 0 rfl ?_
                        refine gx_gI (O := "BorrowedLives") (nm := "tales") (ds := "I") (fin := false) C E dX1_count_160 (by decide +kernel) (Or.inl q400) (fun _ h => h) (fun v160 => ?_)
                        exact gx_iret C hQ hr dX1_count_163
                      · refine gj_neg h1_10 ?_
                        by_cases h1_11 : w32 a1 = 11
                        · refine gj_pos h1_11 ?_
                          refine gj_tin (tgt := 164) C 11 h1_11 dX1_count_1 (by decide) (by decide) rfl (by decide) ?_
                          refine gx_aload_n C dX1_count_164 0 rfl ?_
                          refine gx_gI (O := "BorrowedLives") (nm := "done") (ds := "I") (fin := false) C E dX1_count_165 (by decide +kernel) (Or.inl q391) (fun _ h => h) (fun v165 => ?_)
                          exact gx_iret C hQ hr dX1_count_168
                        · refine gj_neg h1_11 ?_
                          by_cases h1_12 : w32 a1 = 12
                          · refine gj_pos h1_12 ?_
                            refine gj_tin (tgt := 169) C 12 h1_12 dX1_count_1 (by decide) (by decide) rfl (by decide) ?_
                            refine gx_aload_n C dX1_count_169 0 rfl ?_
                            refine gx_gI (O := "BorrowedLives") (nm := "taped") (ds := "I") (fin := false) C E dX1_count_170 (by decide +kernel) (Or.inl q388) (fun _ h => h) (fun v170 => ?_)
                            exact gx_iret C hQ hr dX1_count_173
                          · refine gj_neg h1_12 ?_
                            refine gj_tout (tgt := 174) C dX1_count_1 (by omega) (by decide) ?_
                            refine gj_iconst C dX1_count_174 ?_
                            exact gx_iret C hQ hr dX1_count_175
def x1_power_b4 (a0 a1 : Int) (a2 a3 : Int) (bk4 : (Int × Int) → PT Hp Int) : PT Hp Int :=
  pite (w32 a3 < w32 a1) (
    plet (a2 * a0) fun x12 =>
    bk4 (x12, a3 + 1)) (
    pret a2)
def x1_power_l4 (a0 a1 a2 a3 : Int) : PT Hp Int :=
  ploop (fun (s : (Int × Int)) bk4 => x1_power_b4 a0 a1 s.1 s.2 bk4) (a2, a3)
def x1_power (a0 a1 : Int) : PT Hp Int :=
  x1_power_l4 a0 a1 1 0
set_option maxHeartbeats 4000000 in
set_option maxRecDepth 100000 in
theorem mx1_power (l : Launch) (g : XG) (a0 a1 : Int) : XMet l g yX1_power cX1_power 4 (Option.some Jvm.ClassFile.FieldType.int) (0) [.int (iI a0), .int (iI a1)] (x1_power a0 a1) rvI := by
  refine gx_start (by decide +kernel) (by have e := lg_sl_len [.int (iI a0), .int (iI a1)]; simp only [List.map_cons, List.map_nil, List.sum_cons, List.sum_nil, rv_cat, cat_int, cat_long] at e; omega) (fun X Q σ0 hl C E hQ hR hr hnm => ?_)
  subst hl
  show GJ X 4 (xWo g σ0 (cx_s X).heap) Q (x1_power a0 a1) 0 [(0, .int (iI a0)), (1, .int (iI a1))] []
  have J4 : ∀ (a0 a1 a2 a3 : Int), GJ X 4 (xWo g σ0 (cx_s X).heap) Q (x1_power_l4 a0 a1 a2 a3) 4 [(0, .int (iI a0)), (1, .int (iI a1)), (2, .int (iI a2)), (3, .int (iI a3))] [] := by
    intro a0 a1 a2 a3
    unfold x1_power_l4
    refine gj_loop (fun (s : (Int × Int)) => [(0, .int (iI a0)), (1, .int (iI a1)), (2, .int (iI (s.1))), (3, .int (iI (s.2)))]) (a2, a3) (fun bk4 hb4 s => ?_)
    obtain ⟨a2, a3⟩ := s
    show GJ X 4 (xWo g σ0 (cx_s X).heap) Q (x1_power_b4 a0 a1 a2 a3 bk4) 4 [(0, .int (iI a0)), (1, .int (iI a1)), (2, .int (iI a2)), (3, .int (iI a3))] []
    unfold x1_power_b4
    refine gj_iload_n C dX1_power_4 3 rfl ?_
    refine gj_iload_n C dX1_power_5 1 rfl ?_
    refine gj_icmp_ge (tgt := 19) C dX1_power_6 (by decide) rfl rfl (fun h6 => gj_neg h6 ?_) (fun h6 => gj_pos h6 ?_)
    · refine gj_iload_n C dX1_power_19 2 rfl ?_
      exact gx_iret C hQ hr dX1_power_20
    · refine gj_iload_n C dX1_power_9 2 rfl ?_
      refine gj_iload_n C dX1_power_10 0 rfl ?_
      refine gj_imul C dX1_power_11 ?_
      refine gj_let (fun x12 => ?_)
      refine gj_istore_n (L' := [(2, _), (0, _), (1, _), (3, _)]) C dX1_power_12 (by decide) rfl ?_
      refine gj_iinc (L' := [(3, _), (2, _), (0, _), (1, _)]) C dX1_power_13 3 rfl (by decide) rfl ?_
      refine gj_goto (tgt := 4) C dX1_power_16 (by decide) ?_
      exact gj_to [2, 3, 1, 0] (hb4 (x12, a3 + 1)) rfl
  unfold x1_power
  refine gj_iconst C dX1_power_0 ?_
  refine gj_istore_n (L' := [(2, _), (0, _), (1, _)]) C dX1_power_1 (by decide) rfl ?_
  refine gj_iconst C dX1_power_2 ?_
  refine gj_istore_n (L' := [(3, _), (2, _), (0, _), (1, _)]) C dX1_power_3 (by decide) rfl ?_
  exact gj_to [2, 3, 1, 0] (J4 a0 a1 1 0) rfl
def x1_deedIn (a0 a1 a2 : Int) : PT Hp Int :=
  pbnd (x1_power 3 (((a1 - 1)) - a2)) fun v7 =>
  pbnd (pnz v7) fun _ =>
  pbnd (pnz 3) fun _ =>
  pret (zrem (zdiv a0 v7) 3)
set_option maxHeartbeats 4000000 in
set_option maxRecDepth 100000 in
theorem mx1_deedIn (l : Launch) (g : XG) (a0 a1 a2 : Int) : XMet l g yX1_deedIn cX1_deedIn 3 (Option.some Jvm.ClassFile.FieldType.int) (1) [.int (iI a0), .int (iI a1), .int (iI a2)] (x1_deedIn a0 a1 a2) rvI := by
  refine gx_start (by decide +kernel) (by have e := lg_sl_len [.int (iI a0), .int (iI a1), .int (iI a2)]; simp only [List.map_cons, List.map_nil, List.sum_cons, List.sum_nil, rv_cat, cat_int, cat_long] at e; omega) (fun X Q σ0 hl C E hQ hR hr hnm => ?_)
  subst hl
  show GJ X 3 (xWo g σ0 (cx_s X).heap) Q (x1_deedIn a0 a1 a2) 0 [(0, .int (iI a0)), (1, .int (iI a1)), (2, .int (iI a2))] []
  unfold x1_deedIn
  refine gj_iload_n C dX1_deedIn_0 0 rfl ?_
  refine gj_iconst C dX1_deedIn_1 ?_
  refine gj_iload_n C dX1_deedIn_2 1 rfl ?_
  refine gj_iconst C dX1_deedIn_3 ?_
  refine gj_isub C dX1_deedIn_4 ?_
  refine gj_iload_n C dX1_deedIn_5 2 rfl ?_
  refine gj_isub C dX1_deedIn_6 ?_
  refine gx_callSI (As := [.int (iI 3), .int (iI ((((a1 - 1)) - a2)))]) (rest := [.int (iI a0)]) C E dX1_deedIn_7 (mx1_power (cx_l X) g 3 (((a1 - 1)) - a2)) (lw_S q1767 q1768 q125 q1769) hyx_X1_power hR (Nat.le_of_ble_eq_true rfl) (by decide) rfl rfl (Nat.le_of_ble_eq_true rfl) (fun v7 => ?_)
  refine gj_nz (fun hz10 => ?_)
  refine gj_idiv C dX1_deedIn_10 hz10 ?_
  refine gj_iconst C dX1_deedIn_11 ?_
  refine gj_nz (fun hz12 => ?_)
  refine gj_irem C dX1_deedIn_12 hz12 ?_
  exact gx_iret C hQ hr dX1_deedIn_13
def x1_does (a0 a1 : Option Nat) (a2 a3 a4 : Int) : PT Hp Unit :=
  pite (w32 a4 = 0) (
    pbnd (xrecv a1 4) fun _ =>
    pbnd (x4_gets a1 a2 a3) fun _ =>
    pret ()) (
    pite (w32 a4 = 1) (
      pbnd (xgR a1 4 1) fun v23 =>
      pbnd (xld v23 40 a2) fun v27 =>
      pbnd (xgR a1 4 0) fun v29 =>
      pbnd (xld v29 40 a2) fun v33 =>
      plet (zmin 10 (zmin v27 v33)) fun x40 =>
      pbnd (xgR a1 4 1) fun v43 =>
      pbnd (xld v43 40 a2) fun v48 =>
      pbnd (xst v43 40 a2 (v48 - x40)) fun _ =>
      pbnd (xgR a1 4 0) fun v54 =>
      pbnd (xld v54 40 a2) fun v59 =>
      pbnd (xst v54 40 a2 (v59 - x40)) fun _ =>
      pret ()) (
      pbnd (xgR a1 4 2) fun v68 =>
      pbnd (xgR a1 4 2) fun v75 =>
      pbnd (xld v75 40 a2) fun v79 =>
      plet (if 4 < w32 a3 then 2 else 1) fun v90 =>
      pbnd (xst v68 40 a2 (zmin 9 ((v79 + v90)))) fun _ =>
      pret ()))
set_option maxHeartbeats 4000000 in
set_option maxRecDepth 100000 in
theorem mx1_does (l : Launch) (g : XG) (a0 a1 : Option Nat) (a2 a3 a4 : Int) : XMet l g yX1_does cX1_does 6 (Option.none : Option Jvm.ClassFile.FieldType) (2) [rv g a0, rv g a1, .int (iI a2), .int (iI a3), .int (iI a4)] (x1_does a0 a1 a2 a3 a4) rvV := by
  refine gx_start (by decide +kernel) (by have e := lg_sl_len [rv g a0, rv g a1, .int (iI a2), .int (iI a3), .int (iI a4)]; simp only [List.map_cons, List.map_nil, List.sum_cons, List.sum_nil, rv_cat, cat_int, cat_long] at e; omega) (fun X Q σ0 hl C E hQ hR hr hnm => ?_)
  subst hl
  rw [show lv_args 0 [rv g a0, rv g a1, .int (iI a2), .int (iI a3), .int (iI a4)] = [(0, rv g a0), (1, rv g a1), (2, .int (iI a2)), (3, .int (iI a3)), (4, .int (iI a4))] from by simp [lv_args, rv_cat, cat_int, cat_long]]
  show GJ X 6 (xWo g σ0 (cx_s X).heap) Q (x1_does a0 a1 a2 a3 a4) 0 [(0, rv g a0), (1, rv g a1), (2, .int (iI a2)), (3, .int (iI a3)), (4, .int (iI a4))] []
  unfold x1_does
  refine gj_iload C dX1_does_0 4 rfl ?_
  refine gj_if_ne (tgt := 14) C dX1_does_2 (by decide) (fun h2 => gj_neg h2 ?_) (fun h2 => gj_pos h2 ?_)
  · refine gj_iload C dX1_does_14 4 rfl ?_
    refine gj_iconst C dX1_does_16 ?_
    refine gj_icmp_ne (tgt := 67) (b' := 1) C dX1_does_17 (by decide) rfl (by decide) (fun h17 => gj_neg h17 ?_) (fun h17 => gj_pos h17 ?_)
    · refine gx_aload_n C dX1_does_67 1 rfl ?_
      refine gx_gR (O := "BorrowedLives$State") (nm := "home") (ds := "[I") (fin := true) C E dX1_does_68 (by decide +kernel) (Or.inr ⟨_, q296⟩) (fun _ h => h) (fun v68 => ?_)
      refine gj_iload_n C dX1_does_71 2 rfl ?_
      refine gj_bipush C dX1_does_72 rfl ?_
      refine gx_aload_n C dX1_does_74 1 rfl ?_
      refine gx_gR (O := "BorrowedLives$State") (nm := "home") (ds := "[I") (fin := true) C E dX1_does_75 (by decide +kernel) (Or.inr ⟨_, q296⟩) (fun _ h => h) (fun v75 => ?_)
      refine gj_iload_n C dX1_does_78 2 rfl ?_
      refine gx_iald C E dX1_does_79 (fun v79 => ?_)
      refine gj_iload_n C dX1_does_80 3 rfl ?_
      refine gj_iconst C dX1_does_81 ?_
      refine gj_dia (J := 90) (L := [(0, rv g a0), (1, rv g a1), (2, .int (iI a2)), (3, .int (iI a3)), (4, .int (iI a4))]) (st := [.int (iI v79), .int (iI 9), .int (iI a2), rv g v68]) (fun v90 => ?_) (fun t hJ => ?_)
      · skip
        refine gj_iadd C dX1_does_90 ?_
        refine gx_min C E dX1_does_91 q1361 q517 q137 q518 hR (Nat.le_of_ble_eq_true rfl) (by simp only [List.map_cons, List.map_nil, List.sum_cons, List.sum_nil, rv_cat, cat_int, cat_long]; decide) ?_
        refine gx_iast C E dX1_does_94 ?_
        exact gx_vret C hQ hr dX1_does_95
      · refine gj_icmp_le (tgt := 89) (b' := 4) C dX1_does_82 (by decide) rfl (by decide) (fun h82 => ?_) (fun h82 => ?_)
        · refine gj_iconst C dX1_does_89 ?_
          exact (by rw [if_neg h82] at hJ; exact hJ)
        · refine gj_iconst C dX1_does_85 ?_
          refine gj_goto (tgt := 90) C dX1_does_86 (by decide) ?_
          exact (by rw [if_pos h82] at hJ; exact hJ)
    · refine gj_bipush C dX1_does_20 rfl ?_
      refine gx_aload_n C dX1_does_22 1 rfl ?_
      refine gx_gR (O := "BorrowedLives$State") (nm := "debt") (ds := "[I") (fin := true) C E dX1_does_23 (by decide +kernel) (Or.inr ⟨_, q294⟩) (fun _ h => h) (fun v23 => ?_)
      refine gj_iload_n C dX1_does_26 2 rfl ?_
      refine gx_iald C E dX1_does_27 (fun v27 => ?_)
      refine gx_aload_n C dX1_does_28 1 rfl ?_
      refine gx_gR (O := "BorrowedLives$State") (nm := "purse") (ds := "[I") (fin := true) C E dX1_does_29 (by decide +kernel) (Or.inr ⟨_, q292⟩) (fun _ h => h) (fun v29 => ?_)
      refine gj_iload_n C dX1_does_32 2 rfl ?_
      refine gx_iald C E dX1_does_33 (fun v33 => ?_)
      refine gx_min C E dX1_does_34 q1361 q517 q137 q518 hR (Nat.le_of_ble_eq_true rfl) (Nat.le_of_ble_eq_true rfl) ?_
      refine gx_min C E dX1_does_37 q1361 q517 q137 q518 hR (Nat.le_of_ble_eq_true rfl) (Nat.zero_le _) ?_
      refine gj_let (fun x40 => ?_)
      refine gj_istore (L' := [(5, _), (0, _), (1, _), (2, _), (3, _), (4, _)]) C dX1_does_40 (by decide) rfl ?_
      refine gx_aload_n C dX1_does_42 2 rfl ?_
      refine gx_gR (O := "BorrowedLives$State") (nm := "debt") (ds := "[I") (fin := true) C E dX1_does_43 (by decide +kernel) (Or.inr ⟨_, q294⟩) (fun _ h => h) (fun v43 => ?_)
      refine gj_iload_n C dX1_does_46 3 rfl ?_
      refine gj_dup2 C dX1_does_47 rfl (rv_cat _ _) ?_
      refine gx_iald C E dX1_does_48 (fun v48 => ?_)
      refine gj_iload C dX1_does_49 0 rfl ?_
      refine gj_isub C dX1_does_51 ?_
      refine gx_iast C E dX1_does_52 ?_
      refine gx_aload_n C dX1_does_53 2 rfl ?_
      refine gx_gR (O := "BorrowedLives$State") (nm := "purse") (ds := "[I") (fin := true) C E dX1_does_54 (by decide +kernel) (Or.inr ⟨_, q292⟩) (fun _ h => h) (fun v54 => ?_)
      refine gj_iload_n C dX1_does_57 3 rfl ?_
      refine gj_dup2 C dX1_does_58 rfl (rv_cat _ _) ?_
      refine gx_iald C E dX1_does_59 (fun v59 => ?_)
      refine gj_iload C dX1_does_60 0 rfl ?_
      refine gj_isub C dX1_does_62 ?_
      refine gx_iast C E dX1_does_63 ?_
      refine gj_goto (tgt := 95) C dX1_does_64 (by decide) ?_
      exact gx_vret C hQ hr dX1_does_95
  · refine gx_aload_n C dX1_does_5 1 rfl ?_
    refine gj_iload_n C dX1_does_6 2 rfl ?_
    refine gj_iload_n C dX1_does_7 3 rfl ?_
    refine gx_callVV (t0 := 4) (As := [.int (iI a2), .int (iI a3)]) (rest := []) C E rfl dX1_does_8 (mx4_gets (cx_l X) g a1 a2 a3) (lw_V q1375 q1376 q1377 q131 q1378) hyx_X4_gets rfl hR (Nat.le_of_ble_eq_true rfl) (by decide) rfl rfl (Nat.zero_le _) ?_
    refine gj_goto (tgt := 95) C dX1_does_11 (by decide) ?_
    exact gx_vret C hQ hr dX1_does_95
def x1_goodOf (a0 a1 : Option Nat) (a2 : Int) : PT Hp Int :=
  pbnd (xrecv a0 1) fun _ =>
  pbnd (x1_lays a0 a1 a2 a2 0) fun _ =>
  pbnd (xgR a0 1 2) fun v9 =>
  pbnd (xgR v9 3 5) fun v12 =>
  pite (v12 = none) (
    pbnd (xgR a0 1 7) fun v19 =>
    pbnd (xld v19 40 0) fun v23 =>
    pbnd (xgR a0 1 7) fun v25 =>
    pbnd (xld v25 40 1) fun v29 =>
    pbnd (xgR a0 1 7) fun v34 =>
    pbnd (xld v34 40 2) fun v38 =>
    pret (((v23 - ((v29 * 2)))) + ((v38 * 10)))) (
    pbnd (xgR a0 1 2) fun v47 =>
    pbnd (xgR v47 3 5) fun v50 =>
    pbnd (xgR a0 1 7) fun v54 =>
    pbnd (xdisp v50 [(10, x12_worked v50 v54), (11, x13_worked v50 v54), (12, (xwk 700).1 v50 v54), (13, (xwk 700).2 v50 v54)]) fun v57 =>
    pret v57)
set_option maxHeartbeats 4000000 in
set_option maxRecDepth 100000 in
theorem mx1_goodOf (l : Launch) (g : XG) (a0 a1 : Option Nat) (a2 : Int) : XMet l g yX1_goodOf cX1_goodOf 3 (Option.some Jvm.ClassFile.FieldType.int) (702) [rv g a0, rv g a1, .int (iI a2)] (x1_goodOf a0 a1 a2) rvI := by
  refine gx_start (by decide +kernel) (by have e := lg_sl_len [rv g a0, rv g a1, .int (iI a2)]; simp only [List.map_cons, List.map_nil, List.sum_cons, List.sum_nil, rv_cat, cat_int, cat_long] at e; omega) (fun X Q σ0 hl C E hQ hR hr hnm => ?_)
  subst hl
  rw [show lv_args 0 [rv g a0, rv g a1, .int (iI a2)] = [(0, rv g a0), (1, rv g a1), (2, .int (iI a2))] from by simp [lv_args, rv_cat, cat_int, cat_long]]
  show GJ X 3 (xWo g σ0 (cx_s X).heap) Q (x1_goodOf a0 a1 a2) 0 [(0, rv g a0), (1, rv g a1), (2, .int (iI a2))] []
  unfold x1_goodOf
  refine gx_aload_n C dX1_goodOf_0 0 rfl ?_
  refine gx_aload_n C dX1_goodOf_1 1 rfl ?_
  refine gj_iload_n C dX1_goodOf_2 2 rfl ?_
  refine gj_iload_n C dX1_goodOf_3 2 rfl ?_
  refine gj_iconst C dX1_goodOf_4 ?_
  refine gx_callVV (t0 := 1) (As := [rv g a1, .int (iI a2), .int (iI a2), .int (iI 0)]) (rest := []) C E rfl dX1_goodOf_5 (mx1_lays (cx_l X) g a0 a1 a2 a2 0) (lw_V q1339 q1341 qs37 q125 q1342) hyx_X1_lays rfl hR (Nat.le_of_ble_eq_true rfl) (by decide) rfl rfl (Nat.zero_le _) ?_
  refine gx_aload_n C dX1_goodOf_8 0 rfl ?_
  refine gx_gR (O := "BorrowedLives") (nm := "town") (ds := "LBorrowedLives$Town;") (fin := false) C E dX1_goodOf_9 (by decide +kernel) (Or.inl q377) (fun _ h => h) (fun v9 => ?_)
  refine gx_gR (O := "BorrowedLives$Town") (nm := "good") (ds := "LBorrowedLives$Expression;") (fin := false) C E dX1_goodOf_12 (by decide +kernel) (Or.inr ⟨_, q264⟩) (fun _ h => h) (fun v12 => ?_)
  refine gx_ifnonnull (tgt := 46) C dX1_goodOf_15 (by decide) (fun h15 => gj_neg h15 ?_) (fun h15 => gj_pos h15 ?_)
  · refine gx_aload_n C dX1_goodOf_46 0 rfl ?_
    refine gx_gR (O := "BorrowedLives") (nm := "town") (ds := "LBorrowedLives$Town;") (fin := false) C E dX1_goodOf_47 (by decide +kernel) (Or.inl q377) (fun _ h => h) (fun v47 => ?_)
    refine gx_gR (O := "BorrowedLives$Town") (nm := "good") (ds := "LBorrowedLives$Expression;") (fin := false) C E dX1_goodOf_50 (by decide +kernel) (Or.inr ⟨_, q264⟩) (fun _ h => h) (fun v50 => ?_)
    refine gx_aload_n C dX1_goodOf_53 0 rfl ?_
    refine gx_gR (O := "BorrowedLives") (nm := "facts") (ds := "[I") (fin := true) C E dX1_goodOf_54 (by decide +kernel) (Or.inl q387) (fun _ h => h) (fun v54 => ?_)
    refine gx_shI (rest := []) (fun kk => ?_) (fun v57 => ?_)
    · refine gx_dcons (gx_callAI (x := ⟨"BorrowedLives$Expression", "worked", "([I)I"⟩) (owner := "BorrowedLives$Expression") (t0 := 10) (As := [rv g v54]) (rest := []) C E rfl dX1_goodOf_57 (mx12_worked (cx_l X) g v50 v54) q1344 q1346 q1350 q1351 q154 q1352 q1345 hy9_X11_worked hR (Nat.le_of_ble_eq_true rfl) (by decide) rfl rfl (Nat.zero_le _) kk) ?_
      refine gx_dcons (gx_callAI (x := ⟨"BorrowedLives$Expression", "worked", "([I)I"⟩) (owner := "BorrowedLives$Expression") (t0 := 11) (As := [rv g v54]) (rest := []) C E rfl dX1_goodOf_57 (mx13_worked (cx_l X) g v50 v54) q1344 q1346 q1347 q1348 q155 q1349 q1345 hy9_X11_worked hR (Nat.le_of_ble_eq_true rfl) (by decide) rfl rfl (Nat.zero_le _) kk) ?_
      refine gx_dcons (gx_callAI (x := ⟨"BorrowedLives$Expression", "worked", "([I)I"⟩) (owner := "BorrowedLives$Expression") (t0 := 12) (As := [rv g v54]) (rest := []) C E rfl dX1_goodOf_57 ((mxwk (cx_l X) g 700).1 v50 v54) q1344 q1346 q1353 q1354 q156 q1355 q1345 hy9_X11_worked hR (Nat.le_of_ble_eq_true rfl) (by decide) rfl rfl (Nat.zero_le _) kk) ?_
      refine gx_dcons (gx_callAI (x := ⟨"BorrowedLives$Expression", "worked", "([I)I"⟩) (owner := "BorrowedLives$Expression") (t0 := 13) (As := [rv g v54]) (rest := []) C E rfl dX1_goodOf_57 ((mxwk (cx_l X) g 700).2 v50 v54) q1344 q1346 q1360 q1357 q157 q1358 q1345 hy9_X11_worked hR (Nat.le_of_ble_eq_true rfl) (by decide) rfl rfl (Nat.zero_le _) kk) ?_
      exact gx_dnil
    exact gx_iret C hQ hr dX1_goodOf_60
  · refine gx_aload_n C dX1_goodOf_18 0 rfl ?_
    refine gx_gR (O := "BorrowedLives") (nm := "facts") (ds := "[I") (fin := true) C E dX1_goodOf_19 (by decide +kernel) (Or.inl q387) (fun _ h => h) (fun v19 => ?_)
    refine gj_iconst C dX1_goodOf_22 ?_
    refine gx_iald C E dX1_goodOf_23 (fun v23 => ?_)
    refine gx_aload_n C dX1_goodOf_24 0 rfl ?_
    refine gx_gR (O := "BorrowedLives") (nm := "facts") (ds := "[I") (fin := true) C E dX1_goodOf_25 (by decide +kernel) (Or.inl q387) (fun _ h => h) (fun v25 => ?_)
    refine gj_iconst C dX1_goodOf_28 ?_
    refine gx_iald C E dX1_goodOf_29 (fun v29 => ?_)
    refine gj_iconst C dX1_goodOf_30 ?_
    refine gj_imul C dX1_goodOf_31 ?_
    refine gj_isub C dX1_goodOf_32 ?_
    refine gx_aload_n C dX1_goodOf_33 0 rfl ?_
    refine gx_gR (O := "BorrowedLives") (nm := "facts") (ds := "[I") (fin := true) C E dX1_goodOf_34 (by decide +kernel) (Or.inl q387) (fun _ h => h) (fun v34 => ?_)
    refine gj_iconst C dX1_goodOf_37 ?_
    refine gx_iald C E dX1_goodOf_38 (fun v38 => ?_)
    refine gj_bipush C dX1_goodOf_39 rfl ?_
    refine gj_imul C dX1_goodOf_41 ?_
    refine gj_iadd C dX1_goodOf_42 ?_
    refine gj_goto (tgt := 60) C dX1_goodOf_43 (by decide) ?_
    exact gx_iret C hQ hr dX1_goodOf_60
def x1_gets (a0 a1 a2 a3 a4 : Int) : PT Hp Int :=
  pret (((((a0 * a4)) + ((a1 * (zmin a3 a4))))) - ((((a2 * a3)) * a3)))
set_option maxHeartbeats 4000000 in
set_option maxRecDepth 100000 in
theorem mx1_gets (l : Launch) (g : XG) (a0 a1 a2 a3 a4 : Int) : XMet l g yX1_gets cX1_gets 5 (Option.some Jvm.ClassFile.FieldType.int) (1) [.int (iI a0), .int (iI a1), .int (iI a2), .int (iI a3), .int (iI a4)] (x1_gets a0 a1 a2 a3 a4) rvI := by
  refine gx_start (by decide +kernel) (by have e := lg_sl_len [.int (iI a0), .int (iI a1), .int (iI a2), .int (iI a3), .int (iI a4)]; simp only [List.map_cons, List.map_nil, List.sum_cons, List.sum_nil, rv_cat, cat_int, cat_long] at e; omega) (fun X Q σ0 hl C E hQ hR hr hnm => ?_)
  subst hl
  show GJ X 5 (xWo g σ0 (cx_s X).heap) Q (x1_gets a0 a1 a2 a3 a4) 0 [(0, .int (iI a0)), (1, .int (iI a1)), (2, .int (iI a2)), (3, .int (iI a3)), (4, .int (iI a4))] []
  unfold x1_gets
  refine gj_iload_n C dX1_gets_0 0 rfl ?_
  refine gj_iload C dX1_gets_1 4 rfl ?_
  refine gj_imul C dX1_gets_3 ?_
  refine gj_iload_n C dX1_gets_4 1 rfl ?_
  refine gj_iload_n C dX1_gets_5 3 rfl ?_
  refine gj_iload C dX1_gets_6 4 rfl ?_
  refine gx_min C E dX1_gets_8 q1361 q517 q137 q518 hR (Nat.le_of_ble_eq_true rfl) (Nat.le_of_ble_eq_true rfl) ?_
  refine gj_imul C dX1_gets_11 ?_
  refine gj_iadd C dX1_gets_12 ?_
  refine gj_iload_n C dX1_gets_13 2 rfl ?_
  refine gj_iload_n C dX1_gets_14 3 rfl ?_
  refine gj_imul C dX1_gets_15 ?_
  refine gj_iload_n C dX1_gets_16 3 rfl ?_
  refine gj_imul C dX1_gets_17 ?_
  refine gj_isub C dX1_gets_18 ?_
  exact gx_iret C hQ hr dX1_gets_19
def x1_isRest_b3 (a0 a1 a2 a3 a4 : Int) (a5 : Int) (bk3 : (Int) → PT Hp Int) : PT Hp Int :=
  pite (5 < w32 a5) (
    pbnd (pzo 1) fun _ => pret 1) (
    pbnd (x1_gets a0 a1 a2 a5 a4) fun v16 =>
    pbnd (x1_gets a0 a1 a2 a3 a4) fun v25 =>
    pite (w32 v25 < w32 v16) (
      pbnd (pzo 0) fun _ => pret 0) (
      pbnd (x1_gets a0 a1 a2 a5 a3) fun v37 =>
      pbnd (x1_gets a0 a1 a2 a4 a3) fun v46 =>
      pite (w32 v46 < w32 v37) (
        pbnd (pzo 0) fun _ => pret 0) (
        bk3 (a5 + 1))))
def x1_isRest_l3 (a0 a1 a2 a3 a4 a5 : Int) : PT Hp Int :=
  ploop (fun (s : (Int)) bk3 => x1_isRest_b3 a0 a1 a2 a3 a4 s bk3) (a5)
def x1_isRest (a0 a1 a2 a3 a4 : Int) : PT Hp Int :=
  x1_isRest_l3 a0 a1 a2 a3 a4 0
set_option maxHeartbeats 4000000 in
set_option maxRecDepth 100000 in
theorem mx1_isRest (l : Launch) (g : XG) (a0 a1 a2 a3 a4 : Int) : XMet l g yX1_isRest cX1_isRest 6 (Option.some Jvm.ClassFile.FieldType.boolean) (2) [.int (iI a0), .int (iI a1), .int (iI a2), .int (iI a3), .int (iI a4)] (x1_isRest a0 a1 a2 a3 a4) rvI := by
  refine gx_start (by decide +kernel) (by have e := lg_sl_len [.int (iI a0), .int (iI a1), .int (iI a2), .int (iI a3), .int (iI a4)]; simp only [List.map_cons, List.map_nil, List.sum_cons, List.sum_nil, rv_cat, cat_int, cat_long] at e; omega) (fun X Q σ0 hl C E hQ hR hr hnm => ?_)
  subst hl
  show GJ X 6 (xWo g σ0 (cx_s X).heap) Q (x1_isRest a0 a1 a2 a3 a4) 0 [(0, .int (iI a0)), (1, .int (iI a1)), (2, .int (iI a2)), (3, .int (iI a3)), (4, .int (iI a4))] []
  have J3 : ∀ (a0 a1 a2 a3 a4 a5 : Int), GJ X 6 (xWo g σ0 (cx_s X).heap) Q (x1_isRest_l3 a0 a1 a2 a3 a4 a5) 3 [(0, .int (iI a0)), (1, .int (iI a1)), (2, .int (iI a2)), (3, .int (iI a3)), (4, .int (iI a4)), (5, .int (iI a5))] [] := by
    intro a0 a1 a2 a3 a4 a5
    unfold x1_isRest_l3
    refine gj_loop (fun (s : (Int)) => [(0, .int (iI a0)), (1, .int (iI a1)), (2, .int (iI a2)), (3, .int (iI a3)), (4, .int (iI a4)), (5, .int (iI s))]) (a5) (fun bk3 hb3 s => ?_)
    obtain ⟨a5, rfl⟩ : ∃ z, z = s := ⟨s, rfl⟩
    show GJ X 6 (xWo g σ0 (cx_s X).heap) Q (x1_isRest_b3 a0 a1 a2 a3 a4 a5 bk3) 3 [(0, .int (iI a0)), (1, .int (iI a1)), (2, .int (iI a2)), (3, .int (iI a3)), (4, .int (iI a4)), (5, .int (iI a5))] []
    unfold x1_isRest_b3
    refine gj_iload C dX1_isRest_3 5 rfl ?_
    refine gj_iconst C dX1_isRest_5 ?_
    refine gj_icmp_gt (tgt := 60) (b' := 5) C dX1_isRest_6 (by decide) rfl (by decide) (fun h6 => gj_pos h6 ?_) (fun h6 => gj_neg h6 ?_)
    · refine gj_iconst C dX1_isRest_60 ?_
      exact gx_zret C hQ hr dX1_isRest_61
    · refine gj_iload_n C dX1_isRest_9 0 rfl ?_
      refine gj_iload_n C dX1_isRest_10 1 rfl ?_
      refine gj_iload_n C dX1_isRest_11 2 rfl ?_
      refine gj_iload C dX1_isRest_12 5 rfl ?_
      refine gj_iload C dX1_isRest_14 4 rfl ?_
      refine gx_callSI (As := [.int (iI a0), .int (iI a1), .int (iI a2), .int (iI a5), .int (iI a4)]) (rest := []) C E dX1_isRest_16 (mx1_gets (cx_l X) g a0 a1 a2 a5 a4) (lw_S q1791 q1792 q125 q1793) hyx_X1_gets hR (Nat.le_of_ble_eq_true rfl) (by decide) rfl rfl (Nat.zero_le _) (fun v16 => ?_)
      refine gj_iload_n C dX1_isRest_19 0 rfl ?_
      refine gj_iload_n C dX1_isRest_20 1 rfl ?_
      refine gj_iload_n C dX1_isRest_21 2 rfl ?_
      refine gj_iload_n C dX1_isRest_22 3 rfl ?_
      refine gj_iload C dX1_isRest_23 4 rfl ?_
      refine gx_callSI (As := [.int (iI a0), .int (iI a1), .int (iI a2), .int (iI a3), .int (iI a4)]) (rest := [.int (iI v16)]) C E dX1_isRest_25 (mx1_gets (cx_l X) g a0 a1 a2 a3 a4) (lw_S q1791 q1792 q125 q1793) hyx_X1_gets hR (Nat.le_of_ble_eq_true rfl) (by decide) rfl rfl (Nat.le_of_ble_eq_true rfl) (fun v25 => ?_)
      refine gj_icmp_gt (tgt := 52) C dX1_isRest_28 (by decide) rfl rfl (fun h28 => gj_pos h28 ?_) (fun h28 => gj_neg h28 ?_)
      · refine gj_iconst C dX1_isRest_52 ?_
        exact gx_zret C hQ hr dX1_isRest_53
      · refine gj_iload_n C dX1_isRest_31 0 rfl ?_
        refine gj_iload_n C dX1_isRest_32 1 rfl ?_
        refine gj_iload_n C dX1_isRest_33 2 rfl ?_
        refine gj_iload C dX1_isRest_34 5 rfl ?_
        refine gj_iload_n C dX1_isRest_36 3 rfl ?_
        refine gx_callSI (As := [.int (iI a0), .int (iI a1), .int (iI a2), .int (iI a5), .int (iI a3)]) (rest := []) C E dX1_isRest_37 (mx1_gets (cx_l X) g a0 a1 a2 a5 a3) (lw_S q1791 q1792 q125 q1793) hyx_X1_gets hR (Nat.le_of_ble_eq_true rfl) (by decide) rfl rfl (Nat.zero_le _) (fun v37 => ?_)
        refine gj_iload_n C dX1_isRest_40 0 rfl ?_
        refine gj_iload_n C dX1_isRest_41 1 rfl ?_
        refine gj_iload_n C dX1_isRest_42 2 rfl ?_
        refine gj_iload C dX1_isRest_43 4 rfl ?_
        refine gj_iload_n C dX1_isRest_45 3 rfl ?_
        refine gx_callSI (As := [.int (iI a0), .int (iI a1), .int (iI a2), .int (iI a4), .int (iI a3)]) (rest := [.int (iI v37)]) C E dX1_isRest_46 (mx1_gets (cx_l X) g a0 a1 a2 a4 a3) (lw_S q1791 q1792 q125 q1793) hyx_X1_gets hR (Nat.le_of_ble_eq_true rfl) (by decide) rfl rfl (Nat.le_of_ble_eq_true rfl) (fun v46 => ?_)
        refine gj_icmp_le (tgt := 54) C dX1_isRest_49 (by decide) rfl rfl (fun h49 => gj_neg h49 ?_) (fun h49 => gj_pos h49 ?_)
        · refine gj_iinc (L' := [(5, _), (0, _), (1, _), (2, _), (3, _), (4, _)]) C dX1_isRest_54 5 rfl (by decide) rfl ?_
          refine gj_goto (tgt := 3) C dX1_isRest_57 (by decide) ?_
          exact gj_to [1, 2, 3, 4, 5, 0] (hb3 (a5 + 1)) rfl
        · refine gj_iconst C dX1_isRest_52 ?_
          exact gx_zret C hQ hr dX1_isRest_53
  unfold x1_isRest
  refine gj_iconst C dX1_isRest_0 ?_
  refine gj_istore (L' := [(5, _), (0, _), (1, _), (2, _), (3, _), (4, _)]) C dX1_isRest_1 (by decide) rfl ?_
  exact gj_to [1, 2, 3, 4, 5, 0] (J3 a0 a1 a2 a3 a4 0) rfl
