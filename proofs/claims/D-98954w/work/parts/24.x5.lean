/-! THE COMPONENT: its methods as pure programs, and that the machine runs so (X25.init, X1.least, X26.init, X1.prepare, X1.law, X1.wishOf, X1.wouldSwap, X1.pairs_2, X1.pairs, X1.tale, X27.init, X1.how, J18.bitCount, J18.numberOfTrailingZeros, X1.who, X28.init, X1.ask, X4.goodOfAll, X1.sum): printed by genx.py -/
def x25_init (a0 a1 : Option Nat) : PT Hp Unit :=
  pbnd (xpR a0 21 4 a1) fun _ =>
  pbnd (xnn a0) fun _ =>
  pbnd (x22_init a0 a1) fun _ =>
  pbnd (xnewa 40 6) fun v13 =>
  pbnd (xpR a0 21 2 v13) fun _ =>
  pret ()
set_option maxHeartbeats 4000000 in
set_option maxRecDepth 100000 in
theorem mx25_init (l : Launch) (g : XG) (a0 a1 : Option Nat) : XMet l g yX25_init cX25_init 2 (Option.none : Option Jvm.ClassFile.FieldType) (2) [rv g a0, rv g a1] (x25_init a0 a1) rvV := by
  refine gx_start (by decide +kernel) (by have e := lg_sl_len [rv g a0, rv g a1]; simp only [List.map_cons, List.map_nil, List.sum_cons, List.sum_nil, rv_cat, cat_int, cat_long] at e; omega) (fun X Q σ0 hl C E hQ hR hr hnm => ?_)
  subst hl
  rw [show lv_args 0 [rv g a0, rv g a1] = [(0, rv g a0), (1, rv g a1)] from by simp [lv_args, rv_cat, cat_int, cat_long]]
  show GJ X 2 (xWo g σ0 (cx_s X).heap) Q (x25_init a0 a1) 0 [(0, rv g a0), (1, rv g a1)] []
  unfold x25_init
  refine gx_aload_n C dX25_init_0 0 rfl ?_
  refine gx_aload_n C dX25_init_1 1 rfl ?_
  refine gx_pR (O := "BorrowedLives$Least") (nm := "this$0") (ds := "LBorrowedLives;") (fin := true) (ty := (.object "BorrowedLives")) C E dX25_init_2 (by decide +kernel) (Or.inl q1562) (fun _ h => h) (fun _ => ⟨hnm, rfl⟩) (by decide +kernel) (by decide) ?_
  refine gx_aload_n C dX25_init_5 0 rfl ?_
  refine gx_aload_n C dX25_init_6 1 rfl ?_
  refine gx_callINV (As := [rv g a1]) (rest := []) C E dX25_init_7 (mx22_init (cx_l X) g a0 a1) (lw_meth q1257) q164 q1557 q1256 rfl hyx_X22_init hR (Nat.le_of_ble_eq_true rfl) (by decide) rfl rfl (Nat.zero_le _) ?_
  refine gx_aload_n C dX25_init_10 0 rfl ?_
  refine gj_bipush C dX25_init_11 rfl ?_
  refine gx_newa (t0 := 0) C E dX25_init_13 (by decide) rfl q340 (by decide) rfl (fun v13 => ?_)
  refine gx_pR (O := "BorrowedLives$Least") (nm := "best") (ds := "[I") (fin := true) (ty := (.array .int)) C E dX25_init_15 (by decide +kernel) (Or.inl q1558) (fun _ h => h) (fun _ => ⟨hnm, rfl⟩) (by decide +kernel) (by decide) ?_
  exact gx_vret C hQ hr dX25_init_18
def x1_least_j16 (a0 : Option Nat) (a1 : Int) : PT Hp Int :=
  pbnd (xnew 21) fun v16 =>
  pbnd (xnn v16) fun _ =>
  pbnd (x25_init v16 a0) fun _ =>
  pbnd (xrecv a0 1) fun _ =>
  pbnd (x1_shows a0 v16) fun _ =>
  pbnd (xgI v16 21 0) fun v31 =>
  pite (w32 v31 = 0) (
    pret (-2)) (
    pite (w32 a1 = (-1)) (
      pbnd (xgI v16 21 3) fun v48 =>
      pret v48) (
      pbnd (xgR v16 21 2) fun v55 =>
      pbnd (xld v55 40 a1) fun v59 =>
      pret v59))
def x1_least (a0 : Option Nat) (a1 : Int) : PT Hp Int :=
  pite (w32 a1 = (-1)) (
    x1_least_j16 a0 a1) (
    pbnd (xrecv a0 1) fun _ =>
    pbnd (x1_isPerson a0 a1) fun v7 =>
    pite (w32 v7 = 0) (
      pret (-2)) (
      x1_least_j16 a0 a1))
set_option maxHeartbeats 4000000 in
set_option maxRecDepth 100000 in
theorem mx1_least (l : Launch) (g : XG) (a0 : Option Nat) (a1 : Int) : XMet l g yX1_least cX1_least 3 (Option.some Jvm.ClassFile.FieldType.int) (718) [rv g a0, .int (iI a1)] (x1_least a0 a1) rvI := by
  refine gx_start (by decide +kernel) (by have e := lg_sl_len [rv g a0, .int (iI a1)]; simp only [List.map_cons, List.map_nil, List.sum_cons, List.sum_nil, rv_cat, cat_int, cat_long] at e; omega) (fun X Q σ0 hl C E hQ hR hr hnm => ?_)
  subst hl
  rw [show lv_args 0 [rv g a0, .int (iI a1)] = [(0, rv g a0), (1, .int (iI a1))] from by simp [lv_args, rv_cat, cat_int, cat_long]]
  show GJ X 3 (xWo g σ0 (cx_s X).heap) Q (x1_least a0 a1) 0 [(0, rv g a0), (1, .int (iI a1))] []
  have J16 : ∀ (a0 : Option Nat) (a1 : Int), GJ X 3 (xWo g σ0 (cx_s X).heap) Q (x1_least_j16 a0 a1) 16 [(0, rv g a0), (1, .int (iI a1))] [] := by
    intro a0 a1
    unfold x1_least_j16
    refine gx_new (t0 := 21) C E dX1_least_16 rfl q1552 q1553 q167 (fun v16 => ?_)
    refine gx_dup C dX1_least_19 ?_
    refine gx_aload_n C dX1_least_20 0 rfl ?_
    refine gx_callINV (As := [rv g a0]) (rest := [rv g v16]) C E dX1_least_21 (mx25_init (cx_l X) g v16 a0) (lw_meth q1556) q167 q1554 q1555 rfl hyx_X25_init hR (Nat.le_of_ble_eq_true rfl) (by decide) rfl rfl (by simp only [List.map_cons, List.map_nil, List.sum_cons, List.sum_nil, rv_cat, cat_int, cat_long]; decide) ?_
    refine gx_astore_n (L' := [(2, _), (0, _), (1, _)]) C dX1_least_24 (by decide) rfl ?_
    refine gx_aload_n C dX1_least_25 1 rfl ?_
    refine gx_aload_n C dX1_least_26 0 rfl ?_
    refine gx_callVV (t0 := 1) (As := [rv g v16]) (rest := []) C E rfl dX1_least_27 (mx1_shows (cx_l X) g a0 v16) (lw_V q1288 q1290 qs32 q125 q1291) hyx_X1_shows rfl hR (Nat.le_of_ble_eq_true rfl) (by decide) rfl rfl (Nat.zero_le _) ?_
    refine gx_aload_n C dX1_least_30 0 rfl ?_
    refine gx_gI (O := "BorrowedLives$Looker") (nm := "lots") (ds := "I") (fin := false) C E dX1_least_31 (by decide +kernel) (Or.inl q1271) (fun x h => u_same (C.2.2.2.2.2 _ q1267) x h) (fun v31 => ?_)
    refine gj_if_ne (tgt := 42) C dX1_least_34 (by decide) (fun h34 => gj_neg h34 ?_) (fun h34 => gj_pos h34 ?_)
    · refine gj_iload_n C dX1_least_42 2 rfl ?_
      refine gj_iconst C dX1_least_43 ?_
      refine gj_icmp_ne (tgt := 54) (b' := (-1)) C dX1_least_44 (by decide) rfl (by decide) (fun h44 => gj_neg h44 ?_) (fun h44 => gj_pos h44 ?_)
      · refine gx_aload_n C dX1_least_54 0 rfl ?_
        refine gx_gR (O := "BorrowedLives$Least") (nm := "best") (ds := "[I") (fin := true) C E dX1_least_55 (by decide +kernel) (Or.inr ⟨_, q1559⟩) (fun _ h => h) (fun v55 => ?_)
        refine gj_iload_n C dX1_least_58 2 rfl ?_
        refine gx_iald C E dX1_least_59 (fun v59 => ?_)
        exact gx_iret C hQ hr dX1_least_60
      · refine gx_aload_n C dX1_least_47 0 rfl ?_
        refine gx_gI (O := "BorrowedLives$Least") (nm := "harm") (ds := "I") (fin := false) C E dX1_least_48 (by decide +kernel) (Or.inr ⟨_, q1561⟩) (fun _ h => h) (fun v48 => ?_)
        refine gj_goto (tgt := 60) C dX1_least_51 (by decide) ?_
        exact gx_iret C hQ hr dX1_least_60
    · refine gj_bipush C dX1_least_37 rfl ?_
      refine gj_goto (tgt := 60) C dX1_least_39 (by decide) ?_
      exact gx_iret C hQ hr dX1_least_60
  unfold x1_least
  refine gj_iload_n C dX1_least_0 1 rfl ?_
  refine gj_iconst C dX1_least_1 ?_
  refine gj_icmp_eq (tgt := 16) (b' := (-1)) C dX1_least_2 (by decide) rfl (by decide) (fun h2 => gj_pos h2 ?_) (fun h2 => gj_neg h2 ?_)
  · exact gj_to [0, 1] (J16 a0 a1) rfl
  · refine gx_aload_n C dX1_least_5 0 rfl ?_
    refine gj_iload_n C dX1_least_6 1 rfl ?_
    refine gx_callVI (t0 := 1) (As := [.int (iI a1)]) (rest := []) C E rfl dX1_least_7 (mx1_isPerson (cx_l X) g a0 a1) (lw_V q1188 q1190 qs28 q125 q1191) hyx_X1_isPerson rfl hR (Nat.le_of_ble_eq_true rfl) (by decide) rfl rfl (Nat.zero_le _) (fun v7 => ?_)
    refine gj_if_ne (tgt := 16) C dX1_least_10 (by decide) (fun h10 => gj_neg h10 ?_) (fun h10 => gj_pos h10 ?_)
    · exact gj_to [0, 1] (J16 a0 a1) rfl
    · refine gj_bipush C dX1_least_13 rfl ?_
      exact gx_iret C hQ hr dX1_least_15
def x26_init (a0 a1 : Option Nat) (a2 a3 : Int) : PT Hp Unit :=
  pbnd (xpR a0 22 5 a1) fun _ =>
  pbnd (xnn a0) fun _ =>
  pbnd (x22_init a0 a1) fun _ =>
  pbnd (xpI a0 22 2 a2) fun _ =>
  pbnd (xpI a0 22 3 a3) fun _ =>
  pret ()
set_option maxHeartbeats 4000000 in
set_option maxRecDepth 100000 in
theorem mx26_init (l : Launch) (g : XG) (a0 a1 : Option Nat) (a2 a3 : Int) : XMet l g yX26_init cX26_init 4 (Option.none : Option Jvm.ClassFile.FieldType) (2) [rv g a0, rv g a1, .int (iI a2), .int (iI a3)] (x26_init a0 a1 a2 a3) rvV := by
  refine gx_start (by decide +kernel) (by have e := lg_sl_len [rv g a0, rv g a1, .int (iI a2), .int (iI a3)]; simp only [List.map_cons, List.map_nil, List.sum_cons, List.sum_nil, rv_cat, cat_int, cat_long] at e; omega) (fun X Q σ0 hl C E hQ hR hr hnm => ?_)
  subst hl
  rw [show lv_args 0 [rv g a0, rv g a1, .int (iI a2), .int (iI a3)] = [(0, rv g a0), (1, rv g a1), (2, .int (iI a2)), (3, .int (iI a3))] from by simp [lv_args, rv_cat, cat_int, cat_long]]
  show GJ X 4 (xWo g σ0 (cx_s X).heap) Q (x26_init a0 a1 a2 a3) 0 [(0, rv g a0), (1, rv g a1), (2, .int (iI a2)), (3, .int (iI a3))] []
  unfold x26_init
  refine gx_aload_n C dX26_init_0 0 rfl ?_
  refine gx_aload_n C dX26_init_1 1 rfl ?_
  refine gx_pR (O := "BorrowedLives$Harms") (nm := "this$0") (ds := "LBorrowedLives;") (fin := true) (ty := (.object "BorrowedLives")) C E dX26_init_2 (by decide +kernel) (Or.inl q1586) (fun _ h => h) (fun _ => ⟨hnm, rfl⟩) (by decide +kernel) (by decide) ?_
  refine gx_aload_n C dX26_init_5 0 rfl ?_
  refine gx_aload_n C dX26_init_6 1 rfl ?_
  refine gx_callINV (As := [rv g a1]) (rest := []) C E dX26_init_7 (mx22_init (cx_l X) g a0 a1) (lw_meth q1257) q164 q1581 q1256 rfl hyx_X22_init hR (Nat.le_of_ble_eq_true rfl) (by decide) rfl rfl (Nat.zero_le _) ?_
  refine gx_aload_n C dX26_init_10 0 rfl ?_
  refine gj_iload_n C dX26_init_11 2 rfl ?_
  refine gx_pI (O := "BorrowedLives$Harms") (nm := "life") (ds := "I") (fin := true) (ty := .int) C E dX26_init_12 (by decide +kernel) (Or.inl q1582) (fun _ h => h) (fun _ => ⟨hnm, rfl⟩) (by decide +kernel) (inty_int _) ?_
  refine gx_aload_n C dX26_init_15 0 rfl ?_
  refine gj_iload_n C dX26_init_16 3 rfl ?_
  refine gx_pI (O := "BorrowedLives$Harms") (nm := "sign") (ds := "I") (fin := true) (ty := .int) C E dX26_init_17 (by decide +kernel) (Or.inl q1583) (fun _ h => h) (fun _ => ⟨hnm, rfl⟩) (by decide +kernel) (inty_int _) ?_
  exact gx_vret C hQ hr dX26_init_20
def x1_prepare_j146 (a0 : Option Nat) (a1 a2 a3 a4 a6 a8 : Int) (bk30 : (Int × Int × Int × Int) → PT Hp Int) : PT Hp Int :=
  bk30 (a3, a4, a6, a8 + 25)
def x1_prepare_j118 (a0 : Option Nat) (a1 a2 a8 : Int) (a9 : Option Nat) (bk30 : (Int × Int × Int × Int) → PT Hp Int) : PT Hp Int :=
  pbnd (xgI a9 22 4) fun v123 =>
  pbnd (xgI a9 22 4) fun v130 =>
  pbnd (xgI a9 22 0) fun v139 =>
  pbnd (pnzl (zi2l v139)) fun _ =>
  plet (ldiv' ((v130 * 1000)) (zi2l v139)) fun x144 =>
  x1_prepare_j146 a0 a1 a2 a8 v123 x144 a8 bk30
def x1_prepare_b30 (a0 : Option Nat) (a1 a2 : Int) (a3 a4 a6 a8 : Int) (bk30 : (Int × Int × Int × Int) → PT Hp Int) : PT Hp Int :=
  pbnd (xgR a0 1 4) fun v33 =>
  pbnd (xgR v33 4 0) fun v36 =>
  pbnd (xld v36 40 a1) fun v40 =>
  pite (w32 v40 < w32 a8) (
    plet (if w32 a2 = 0 then a3 else zl2i a6) fun v163 =>
    pret v163) (
    pbnd (xgR a0 1 5) fun v45 =>
    pbnd (xgR a0 1 4) fun v49 =>
    pbnd (xrecv v45 4) fun _ =>
    pbnd (x4_be v45 v49) fun _ =>
    pbnd (xgR a0 1 5) fun v56 =>
    pbnd (xgR v56 4 3) fun v59 =>
    pbnd (xst v59 40 a1 a8) fun _ =>
    pbnd (xnew 22) fun v66 =>
    pbnd (xgR a0 1 2) fun v73 =>
    pbnd (xrecv v73 3) fun _ =>
    pbnd (x3_sign v73) fun v76 =>
    pbnd (xnn v66) fun _ =>
    pbnd (x26_init v66 a0 a1 v76) fun _ =>
    pbnd (xrecv a0 1) fun _ =>
    pbnd (x1_shows a0 v66) fun _ =>
    pbnd (xgI v66 22 0) fun v92 =>
    pite (w32 v92 = 0) (
      pret (-1)) (
      pite (w32 a3 < 0) (
        x1_prepare_j118 a0 a1 a2 a8 v66 bk30) (
        pbnd (xgI v66 22 4) fun v106 =>
        pite (w32 (lcmp' v106 a4) < 0) (
          x1_prepare_j118 a0 a1 a2 a8 v66 bk30) (
          x1_prepare_j146 a0 a1 a2 a3 a4 a6 a8 bk30))))
def x1_prepare_l30 (a0 : Option Nat) (a1 a2 a3 a4 a6 a8 : Int) : PT Hp Int :=
  ploop (fun (s : (Int × Int × Int × Int)) bk30 => x1_prepare_b30 a0 a1 a2 s.1 s.2.1 s.2.2.1 s.2.2.2 bk30) (a3, a4, a6, a8)
def x1_prepare (a0 : Option Nat) (a1 a2 : Int) : PT Hp Int :=
  pbnd (xrecv a0 1) fun _ =>
  pbnd (x1_isPerson a0 a1) fun v2 =>
  pite (w32 v2 = 0) (
    pret (-1)) (
    pbnd (x1_in a2 0 1) fun v11 =>
    pite (w32 v11 = 0) (
      pret (-1)) (
      x1_prepare_l30 a0 a1 a2 (-1) 0 0 0))
set_option maxHeartbeats 4000000 in
set_option maxRecDepth 100000 in
theorem mx1_prepare (l : Launch) (g : XG) (a0 : Option Nat) (a1 a2 : Int) : XMet l g yX1_prepare cX1_prepare 10 (Option.some Jvm.ClassFile.FieldType.int) (718) [rv g a0, .int (iI a1), .int (iI a2)] (x1_prepare a0 a1 a2) rvI := by
  refine gx_start (by decide +kernel) (by have e := lg_sl_len [rv g a0, .int (iI a1), .int (iI a2)]; simp only [List.map_cons, List.map_nil, List.sum_cons, List.sum_nil, rv_cat, cat_int, cat_long] at e; omega) (fun X Q σ0 hl C E hQ hR hr hnm => ?_)
  subst hl
  rw [show lv_args 0 [rv g a0, .int (iI a1), .int (iI a2)] = [(0, rv g a0), (1, .int (iI a1)), (2, .int (iI a2))] from by simp [lv_args, rv_cat, cat_int, cat_long]]
  show GJ X 10 (xWo g σ0 (cx_s X).heap) Q (x1_prepare a0 a1 a2) 0 [(0, rv g a0), (1, .int (iI a1)), (2, .int (iI a2))] []
  have J30 : ∀ (a0 : Option Nat) (a1 a2 a3 a4 a6 a8 : Int), GJ X 10 (xWo g σ0 (cx_s X).heap) Q (x1_prepare_l30 a0 a1 a2 a3 a4 a6 a8) 30 [(0, rv g a0), (1, .int (iI a1)), (2, .int (iI a2)), (3, .int (iI a3)), (4, .long (iL a4)), (6, .long (iL a6)), (8, .int (iI a8))] [] := by
    intro a0 a1 a2 a3 a4 a6 a8
    unfold x1_prepare_l30
    refine gj_loop (fun (s : (Int × Int × Int × Int)) => [(0, rv g a0), (1, .int (iI a1)), (2, .int (iI a2)), (3, .int (iI (s.1))), (4, .long (iL (s.2.1))), (6, .long (iL (s.2.2.1))), (8, .int (iI (s.2.2.2)))]) (a3, a4, a6, a8) (fun bk30 hb30 s => ?_)
    obtain ⟨a3, a4, a6, a8⟩ := s
    show GJ X 10 (xWo g σ0 (cx_s X).heap) Q (x1_prepare_b30 a0 a1 a2 a3 a4 a6 a8 bk30) 30 [(0, rv g a0), (1, .int (iI a1)), (2, .int (iI a2)), (3, .int (iI a3)), (4, .long (iL a4)), (6, .long (iL a6)), (8, .int (iI a8))] []
    have J146 : ∀ (a3 a4 a6 a8 : Int), GJ X 10 (xWo g σ0 (cx_s X).heap) Q (x1_prepare_j146 a0 a1 a2 a3 a4 a6 a8 bk30) 146 [(0, rv g a0), (1, .int (iI a1)), (2, .int (iI a2)), (3, .int (iI a3)), (4, .long (iL a4)), (6, .long (iL a6)), (8, .int (iI a8))] [] := by
      intro a3 a4 a6 a8
      unfold x1_prepare_j146
      refine gj_iinc (L' := [(8, _), (0, _), (1, _), (2, _), (3, _), (4, _), (6, _)]) C dX1_prepare_146 6 rfl (by decide) rfl ?_
      refine gj_goto (tgt := 30) C dX1_prepare_149 (by decide) ?_
      exact gj_to [1, 2, 3, 4, 5, 6, 0] (hb30 (a3, a4, a6, a8 + 25)) rfl
    have J118 : ∀ (a8 : Int) (a9 : Option Nat), GJ X 10 (xWo g σ0 (cx_s X).heap) Q (x1_prepare_j118 a0 a1 a2 a8 a9 bk30) 118 [(0, rv g a0), (1, .int (iI a1)), (2, .int (iI a2)), (8, .int (iI a8)), (9, rv g a9)] [] := by
      intro a8 a9
      unfold x1_prepare_j118
      refine gj_iload C dX1_prepare_118 3 rfl ?_
      refine gj_istore_n (L' := [(3, _), (0, _), (1, _), (2, _), (8, _), (9, _)]) C dX1_prepare_120 (by decide) rfl ?_
      refine gx_aload C dX1_prepare_121 5 rfl ?_
      refine gx_gL (O := "BorrowedLives$Harms") (nm := "harm") (ds := "J") (fin := false) C E dX1_prepare_123 (by decide +kernel) (Or.inr ⟨_, q1585⟩) (fun _ h => h) (fun v123 => ?_)
      refine gj_lstore (L' := [(4, _), (3, _), (0, _), (1, _), (2, _), (8, _), (9, _)]) C dX1_prepare_126 (by decide) rfl ?_
      refine gx_aload C dX1_prepare_128 6 rfl ?_
      refine gx_gL (O := "BorrowedLives$Harms") (nm := "harm") (ds := "J") (fin := false) C E dX1_prepare_130 (by decide +kernel) (Or.inr ⟨_, q1585⟩) (fun _ h => h) (fun v130 => ?_)
      refine gj_ldc2 (z := 1000) C dX1_prepare_133 q1598 (by decide) ?_
      refine gj_lmul C dX1_prepare_136 ?_
      refine gx_aload C dX1_prepare_137 6 rfl ?_
      refine gx_gI (O := "BorrowedLives$Looker") (nm := "lots") (ds := "I") (fin := false) C E dX1_prepare_139 (by decide +kernel) (Or.inl q1272) (fun x h => u_same (C.2.2.2.2.2 _ q1273) x h) (fun v139 => ?_)
      refine gj_i2l C dX1_prepare_142 ?_
      refine gj_nzl (fun hz143 => ?_)
      refine gj_ldiv C dX1_prepare_143 hz143 ?_
      refine gj_letl (fun x144 => ?_)
      refine gj_lstore (L' := [(6, _), (4, _), (3, _), (0, _), (1, _), (2, _), (8, _), (9, _)]) C dX1_prepare_144 (by decide) rfl ?_
      exact gj_to [3, 4, 5, 2, 1, 0, 6] (J146 a8 v123 x144 a8) rfl
    unfold x1_prepare_b30
    refine gj_iload C dX1_prepare_30 6 rfl ?_
    refine gx_aload_n C dX1_prepare_32 0 rfl ?_
    refine gx_gR (O := "BorrowedLives") (nm := "state") (ds := "LBorrowedLives$State;") (fin := true) C E dX1_prepare_33 (by decide +kernel) (Or.inl q380) (fun _ h => h) (fun v33 => ?_)
    refine gx_gR (O := "BorrowedLives$State") (nm := "purse") (ds := "[I") (fin := true) C E dX1_prepare_36 (by decide +kernel) (Or.inr ⟨_, q292⟩) (fun _ h => h) (fun v36 => ?_)
    refine gj_iload_n C dX1_prepare_39 1 rfl ?_
    refine gx_iald C E dX1_prepare_40 (fun v40 => ?_)
    refine gj_icmp_gt (tgt := 152) C dX1_prepare_41 (by decide) rfl rfl (fun h41 => gj_pos h41 ?_) (fun h41 => gj_neg h41 ?_)
    · refine gj_iload_n C dX1_prepare_152 2 rfl ?_
      refine gj_dia (J := 163) (L := [(0, rv g a0), (1, .int (iI a1)), (2, .int (iI a2)), (3, .int (iI a3)), (4, .long (iL a4)), (6, .long (iL a6)), (8, .int (iI a8))]) (st := []) (fun v163 => ?_) (fun t hJ => ?_)
      · skip
        exact gx_iret C hQ hr dX1_prepare_163
      · refine gj_if_ne (tgt := 160) C dX1_prepare_153 (by decide) (fun h153 => ?_) (fun h153 => ?_)
        · refine gj_lload C dX1_prepare_160 5 rfl ?_
          refine gj_l2i C dX1_prepare_162 ?_
          exact (by rw [if_neg h153] at hJ; exact hJ)
        · refine gj_iload_n C dX1_prepare_156 3 rfl ?_
          refine gj_goto (tgt := 163) C dX1_prepare_157 (by decide) ?_
          exact (by rw [if_pos h153] at hJ; exact hJ)
    · refine gx_aload_n C dX1_prepare_44 0 rfl ?_
      refine gx_gR (O := "BorrowedLives") (nm := "trial") (ds := "LBorrowedLives$State;") (fin := true) C E dX1_prepare_45 (by decide +kernel) (Or.inl q382) (fun _ h => h) (fun v45 => ?_)
      refine gx_aload_n C dX1_prepare_48 0 rfl ?_
      refine gx_gR (O := "BorrowedLives") (nm := "state") (ds := "LBorrowedLives$State;") (fin := true) C E dX1_prepare_49 (by decide +kernel) (Or.inl q380) (fun _ h => h) (fun v49 => ?_)
      refine gx_callVV (t0 := 4) (As := [rv g v49]) (rest := []) C E rfl dX1_prepare_52 (mx4_be (cx_l X) g v45 v49) (lw_V q1306 q1307 q1308 q131 q1309) hyx_X4_be rfl hR (Nat.le_of_ble_eq_true rfl) (by decide) rfl rfl (Nat.zero_le _) ?_
      refine gx_aload_n C dX1_prepare_55 0 rfl ?_
      refine gx_gR (O := "BorrowedLives") (nm := "trial") (ds := "LBorrowedLives$State;") (fin := true) C E dX1_prepare_56 (by decide +kernel) (Or.inl q382) (fun _ h => h) (fun v56 => ?_)
      refine gx_gR (O := "BorrowedLives$State") (nm := "hidden") (ds := "[I") (fin := true) C E dX1_prepare_59 (by decide +kernel) (Or.inr ⟨_, q299⟩) (fun _ h => h) (fun v59 => ?_)
      refine gj_iload_n C dX1_prepare_62 1 rfl ?_
      refine gj_iload C dX1_prepare_63 6 rfl ?_
      refine gx_iast C E dX1_prepare_65 ?_
      refine gx_new (t0 := 22) C E dX1_prepare_66 rfl q1576 q1577 q168 (fun v66 => ?_)
      refine gx_dup C dX1_prepare_69 ?_
      refine gx_aload_n C dX1_prepare_70 0 rfl ?_
      refine gj_iload_n C dX1_prepare_71 1 rfl ?_
      refine gx_aload_n C dX1_prepare_72 0 rfl ?_
      refine gx_gR (O := "BorrowedLives") (nm := "town") (ds := "LBorrowedLives$Town;") (fin := false) C E dX1_prepare_73 (by decide +kernel) (Or.inl q377) (fun _ h => h) (fun v73 => ?_)
      refine gx_callVI (t0 := 3) (As := []) (rest := [.int (iI a1), rv g a0, rv g v66, rv g v66]) C E rfl dX1_prepare_76 (mx3_sign (cx_l X) g v73) (lw_V q1317 q1318 q1319 q127 q1320) hyx_X3_sign rfl hR (Nat.le_of_ble_eq_true rfl) (by decide) rfl rfl (by simp only [List.map_cons, List.map_nil, List.sum_cons, List.sum_nil, rv_cat, cat_int, cat_long]; decide) (fun v76 => ?_)
      refine gx_callIV (As := [rv g a0, .int (iI a1), .int (iI v76)]) (rest := [rv g v66]) C E dX1_prepare_79 (mx26_init (cx_l X) g v66 a0 a1 v76) (lw_meth q1580) q168 q1578 q1579 rfl hyx_X26_init hR (Nat.le_of_ble_eq_true rfl) (by decide) rfl rfl (by simp only [List.map_cons, List.map_nil, List.sum_cons, List.sum_nil, rv_cat, cat_int, cat_long]; decide) ?_
      refine gx_astore (L' := [(9, _), (0, _), (1, _), (2, _), (3, _), (4, _), (6, _), (8, _)]) C dX1_prepare_82 (by decide) rfl ?_
      refine gx_aload_n C dX1_prepare_84 1 rfl ?_
      refine gx_aload C dX1_prepare_85 0 rfl ?_
      refine gx_callVV (t0 := 1) (As := [rv g v66]) (rest := []) C E rfl dX1_prepare_87 (mx1_shows (cx_l X) g a0 v66) (lw_V q1288 q1290 qs32 q125 q1291) hyx_X1_shows rfl hR (Nat.le_of_ble_eq_true rfl) (by decide) rfl rfl (Nat.zero_le _) ?_
      refine gx_aload C dX1_prepare_90 0 rfl ?_
      refine gx_gI (O := "BorrowedLives$Looker") (nm := "lots") (ds := "I") (fin := false) C E dX1_prepare_92 (by decide +kernel) (Or.inl q1272) (fun x h => u_same (C.2.2.2.2.2 _ q1273) x h) (fun v92 => ?_)
      refine gj_if_ne (tgt := 100) C dX1_prepare_95 (by decide) (fun h95 => gj_neg h95 ?_) (fun h95 => gj_pos h95 ?_)
      · refine gj_iload_n C dX1_prepare_100 4 rfl ?_
        refine gj_if_lt (tgt := 118) C dX1_prepare_101 (by decide) (fun h101 => gj_pos h101 ?_) (fun h101 => gj_neg h101 ?_)
        · exact gj_to [1, 2, 3, 7, 0] (J118 a8 v66) rfl
        · refine gx_aload C dX1_prepare_104 0 rfl ?_
          refine gx_gL (O := "BorrowedLives$Harms") (nm := "harm") (ds := "J") (fin := false) C E dX1_prepare_106 (by decide +kernel) (Or.inr ⟨_, q1585⟩) (fun _ h => h) (fun v106 => ?_)
          refine gj_lload C dX1_prepare_109 5 rfl ?_
          refine gj_lcmp C dX1_prepare_111 ?_
          refine gj_if_lt (tgt := 118) C dX1_prepare_112 (by decide) (fun h112 => gj_pos h112 ?_) (fun h112 => gj_neg h112 ?_)
          · exact gj_to [1, 2, 3, 7, 0] (J118 a8 v66) rfl
          · refine gj_goto (tgt := 146) C dX1_prepare_115 (by decide) ?_
            exact gj_to [1, 2, 3, 4, 5, 6, 7] (J146 a3 a4 a6 a8) rfl
      · refine gj_iconst C dX1_prepare_98 ?_
        exact gx_iret C hQ hr dX1_prepare_99
  unfold x1_prepare
  refine gx_aload_n C dX1_prepare_0 0 rfl ?_
  refine gj_iload_n C dX1_prepare_1 1 rfl ?_
  refine gx_callVI (t0 := 1) (As := [.int (iI a1)]) (rest := []) C E rfl dX1_prepare_2 (mx1_isPerson (cx_l X) g a0 a1) (lw_V q1188 q1190 qs28 q125 q1191) hyx_X1_isPerson rfl hR (Nat.le_of_ble_eq_true rfl) (by decide) rfl rfl (Nat.zero_le _) (fun v2 => ?_)
  refine gj_if_eq (tgt := 17) C dX1_prepare_5 (by decide) (fun h5 => gj_pos h5 ?_) (fun h5 => gj_neg h5 ?_)
  · refine gj_iconst C dX1_prepare_17 ?_
    exact gx_iret C hQ hr dX1_prepare_18
  · refine gj_iload_n C dX1_prepare_8 2 rfl ?_
    refine gj_iconst C dX1_prepare_9 ?_
    refine gj_iconst C dX1_prepare_10 ?_
    refine gx_callSI (As := [.int (iI a2), .int (iI 0), .int (iI 1)]) (rest := []) C E dX1_prepare_11 (mx1_in (cx_l X) g a2 0 1) (lw_S q1197 q1198 q125 q1199) hyx_X1_in hR (Nat.le_of_ble_eq_true rfl) (by decide) rfl rfl (Nat.zero_le _) (fun v11 => ?_)
    refine gj_if_ne (tgt := 19) C dX1_prepare_14 (by decide) (fun h14 => gj_neg h14 ?_) (fun h14 => gj_pos h14 ?_)
    · refine gj_iconst C dX1_prepare_19 ?_
      refine gj_istore_n (L' := [(3, _), (0, _), (1, _), (2, _)]) C dX1_prepare_20 (by decide) rfl ?_
      refine gj_lconst (z := 0) C dX1_prepare_21 rfl ?_
      refine gj_lstore (L' := [(4, _), (3, _), (0, _), (1, _), (2, _)]) C dX1_prepare_22 (by decide) rfl ?_
      refine gj_lconst (z := 0) C dX1_prepare_24 rfl ?_
      refine gj_lstore (L' := [(6, _), (4, _), (3, _), (0, _), (1, _), (2, _)]) C dX1_prepare_25 (by decide) rfl ?_
      refine gj_iconst C dX1_prepare_27 ?_
      refine gj_istore (L' := [(8, _), (6, _), (4, _), (3, _), (0, _), (1, _), (2, _)]) C dX1_prepare_28 (by decide) rfl ?_
      exact gj_to [4, 5, 6, 3, 2, 1, 0] (J30 a0 a1 a2 (-1) 0 0 0) rfl
    · refine gj_iconst C dX1_prepare_17 ?_
      exact gx_iret C hQ hr dX1_prepare_18
def x1_law (a0 : Option Nat) (a1 : Int) : PT Hp Int :=
  pbnd (x1_in a1 0 999) fun v5 =>
  pite (w32 v5 = 0) (
    pret (-1)) (
    pbnd (xgR a0 1 5) fun v14 =>
    pbnd (xgR a0 1 4) fun v18 =>
    pbnd (xrecv v14 4) fun _ =>
    pbnd (x4_be v14 v18) fun _ =>
    pbnd (xnew 22) fun v24 =>
    pbnd (xnn v24) fun _ =>
    pbnd (x26_init v24 a0 (-1) a1) fun _ =>
    pbnd (xrecv a0 1) fun _ =>
    pbnd (x1_shows a0 v24) fun _ =>
    pbnd (xgI v24 22 0) fun v41 =>
    pite (w32 v41 = 0) (
      pret (-1)) (
      pbnd (xgI v24 22 4) fun v52 =>
      pbnd (xgI v24 22 0) fun v60 =>
      pbnd (pnzl (zi2l v60)) fun _ =>
      pret (zl2i (ldiv' ((v52 * 1000)) (zi2l v60)))))
set_option maxHeartbeats 4000000 in
set_option maxRecDepth 100000 in
theorem mx1_law (l : Launch) (g : XG) (a0 : Option Nat) (a1 : Int) : XMet l g yX1_law cX1_law 3 (Option.some Jvm.ClassFile.FieldType.int) (718) [rv g a0, .int (iI a1)] (x1_law a0 a1) rvI := by
  refine gx_start (by decide +kernel) (by have e := lg_sl_len [rv g a0, .int (iI a1)]; simp only [List.map_cons, List.map_nil, List.sum_cons, List.sum_nil, rv_cat, cat_int, cat_long] at e; omega) (fun X Q σ0 hl C E hQ hR hr hnm => ?_)
  subst hl
  rw [show lv_args 0 [rv g a0, .int (iI a1)] = [(0, rv g a0), (1, .int (iI a1))] from by simp [lv_args, rv_cat, cat_int, cat_long]]
  show GJ X 3 (xWo g σ0 (cx_s X).heap) Q (x1_law a0 a1) 0 [(0, rv g a0), (1, .int (iI a1))] []
  unfold x1_law
  refine gj_iload_n C dX1_law_0 1 rfl ?_
  refine gj_iconst C dX1_law_1 ?_
  refine gj_sipush C dX1_law_2 rfl ?_
  refine gx_callSI (As := [.int (iI a1), .int (iI 0), .int (iI 999)]) (rest := []) C E dX1_law_5 (mx1_in (cx_l X) g a1 0 999) (lw_S q1197 q1198 q125 q1199) hyx_X1_in hR (Nat.le_of_ble_eq_true rfl) (by decide) rfl rfl (Nat.zero_le _) (fun v5 => ?_)
  refine gj_if_ne (tgt := 13) C dX1_law_8 (by decide) (fun h8 => gj_neg h8 ?_) (fun h8 => gj_pos h8 ?_)
  · refine gx_aload_n C dX1_law_13 0 rfl ?_
    refine gx_gR (O := "BorrowedLives") (nm := "trial") (ds := "LBorrowedLives$State;") (fin := true) C E dX1_law_14 (by decide +kernel) (Or.inl q382) (fun _ h => h) (fun v14 => ?_)
    refine gx_aload_n C dX1_law_17 0 rfl ?_
    refine gx_gR (O := "BorrowedLives") (nm := "state") (ds := "LBorrowedLives$State;") (fin := true) C E dX1_law_18 (by decide +kernel) (Or.inl q380) (fun _ h => h) (fun v18 => ?_)
    refine gx_callVV (t0 := 4) (As := [rv g v18]) (rest := []) C E rfl dX1_law_21 (mx4_be (cx_l X) g v14 v18) (lw_V q1306 q1307 q1308 q131 q1309) hyx_X4_be rfl hR (Nat.le_of_ble_eq_true rfl) (by decide) rfl rfl (Nat.zero_le _) ?_
    refine gx_new (t0 := 22) C E dX1_law_24 rfl q1576 q1577 q168 (fun v24 => ?_)
    refine gx_dup C dX1_law_27 ?_
    refine gx_aload_n C dX1_law_28 0 rfl ?_
    refine gj_iconst C dX1_law_29 ?_
    refine gj_iload_n C dX1_law_30 1 rfl ?_
    refine gx_callIV (As := [rv g a0, .int (iI (-1)), .int (iI a1)]) (rest := [rv g v24]) C E dX1_law_31 (mx26_init (cx_l X) g v24 a0 (-1) a1) (lw_meth q1580) q168 q1578 q1579 rfl hyx_X26_init hR (Nat.le_of_ble_eq_true rfl) (by decide) rfl rfl (by simp only [List.map_cons, List.map_nil, List.sum_cons, List.sum_nil, rv_cat, cat_int, cat_long]; decide) ?_
    refine gx_astore_n (L' := [(2, _), (0, _), (1, _)]) C dX1_law_34 (by decide) rfl ?_
    refine gx_aload_n C dX1_law_35 1 rfl ?_
    refine gx_aload_n C dX1_law_36 0 rfl ?_
    refine gx_callVV (t0 := 1) (As := [rv g v24]) (rest := []) C E rfl dX1_law_37 (mx1_shows (cx_l X) g a0 v24) (lw_V q1288 q1290 qs32 q125 q1291) hyx_X1_shows rfl hR (Nat.le_of_ble_eq_true rfl) (by decide) rfl rfl (Nat.zero_le _) ?_
    refine gx_aload_n C dX1_law_40 0 rfl ?_
    refine gx_gI (O := "BorrowedLives$Looker") (nm := "lots") (ds := "I") (fin := false) C E dX1_law_41 (by decide +kernel) (Or.inl q1272) (fun x h => u_same (C.2.2.2.2.2 _ q1273) x h) (fun v41 => ?_)
    refine gj_if_ne (tgt := 51) C dX1_law_44 (by decide) (fun h44 => gj_neg h44 ?_) (fun h44 => gj_pos h44 ?_)
    · refine gx_aload_n C dX1_law_51 0 rfl ?_
      refine gx_gL (O := "BorrowedLives$Harms") (nm := "harm") (ds := "J") (fin := false) C E dX1_law_52 (by decide +kernel) (Or.inr ⟨_, q1585⟩) (fun _ h => h) (fun v52 => ?_)
      refine gj_ldc2 (z := 1000) C dX1_law_55 q1598 (by decide) ?_
      refine gj_lmul C dX1_law_58 ?_
      refine gx_aload_n C dX1_law_59 0 rfl ?_
      refine gx_gI (O := "BorrowedLives$Looker") (nm := "lots") (ds := "I") (fin := false) C E dX1_law_60 (by decide +kernel) (Or.inl q1272) (fun x h => u_same (C.2.2.2.2.2 _ q1273) x h) (fun v60 => ?_)
      refine gj_i2l C dX1_law_63 ?_
      refine gj_nzl (fun hz64 => ?_)
      refine gj_ldiv C dX1_law_64 hz64 ?_
      refine gj_l2i C dX1_law_65 ?_
      exact gx_iret C hQ hr dX1_law_66
    · refine gj_iconst C dX1_law_47 ?_
      refine gj_goto (tgt := 66) C dX1_law_48 (by decide) ?_
      exact gx_iret C hQ hr dX1_law_66
  · refine gj_iconst C dX1_law_11 ?_
    exact gx_iret C hQ hr dX1_law_12
def x1_wishOf (a0 : Option Nat) (a1 a2 : Int) : PT Hp Int :=
  pbnd (xgR a0 1 4) fun v2 =>
  pbnd (xrecv a0 1) fun _ =>
  pbnd (x1_lays a0 v2 a2 a1 0) fun _ =>
  pbnd (xgR a0 1 2) fun v12 =>
  pbnd (xgR v12 3 6) fun v15 =>
  pite (v15 = none) (
    pbnd (xgR a0 1 7) fun v22 =>
    pbnd (xld v22 40 0) fun v26 =>
    pbnd (xgR a0 1 7) fun v28 =>
    pbnd (xld v28 40 1) fun v32 =>
    pbnd (xgR a0 1 7) fun v35 =>
    pbnd (xld v35 40 2) fun v39 =>
    pret (((v26 - v32)) + ((v39 * 5)))) (
    pbnd (xgR a0 1 2) fun v47 =>
    pbnd (xgR v47 3 6) fun v50 =>
    pbnd (xgR a0 1 7) fun v54 =>
    pbnd (xdisp v50 [(10, x12_worked v50 v54), (11, x13_worked v50 v54), (12, (xwk 700).1 v50 v54), (13, (xwk 700).2 v50 v54)]) fun v57 =>
    pret v57)
set_option maxHeartbeats 4000000 in
set_option maxRecDepth 100000 in
theorem mx1_wishOf (l : Launch) (g : XG) (a0 : Option Nat) (a1 a2 : Int) : XMet l g yX1_wishOf cX1_wishOf 3 (Option.some Jvm.ClassFile.FieldType.int) (702) [rv g a0, .int (iI a1), .int (iI a2)] (x1_wishOf a0 a1 a2) rvI := by
  refine gx_start (by decide +kernel) (by have e := lg_sl_len [rv g a0, .int (iI a1), .int (iI a2)]; simp only [List.map_cons, List.map_nil, List.sum_cons, List.sum_nil, rv_cat, cat_int, cat_long] at e; omega) (fun X Q σ0 hl C E hQ hR hr hnm => ?_)
  subst hl
  rw [show lv_args 0 [rv g a0, .int (iI a1), .int (iI a2)] = [(0, rv g a0), (1, .int (iI a1)), (2, .int (iI a2))] from by simp [lv_args, rv_cat, cat_int, cat_long]]
  show GJ X 3 (xWo g σ0 (cx_s X).heap) Q (x1_wishOf a0 a1 a2) 0 [(0, rv g a0), (1, .int (iI a1)), (2, .int (iI a2))] []
  unfold x1_wishOf
  refine gx_aload_n C dX1_wishOf_0 0 rfl ?_
  refine gx_aload_n C dX1_wishOf_1 0 rfl ?_
  refine gx_gR (O := "BorrowedLives") (nm := "state") (ds := "LBorrowedLives$State;") (fin := true) C E dX1_wishOf_2 (by decide +kernel) (Or.inl q380) (fun _ h => h) (fun v2 => ?_)
  refine gj_iload_n C dX1_wishOf_5 2 rfl ?_
  refine gj_iload_n C dX1_wishOf_6 1 rfl ?_
  refine gj_iconst C dX1_wishOf_7 ?_
  refine gx_callVV (t0 := 1) (As := [rv g v2, .int (iI a2), .int (iI a1), .int (iI 0)]) (rest := []) C E rfl dX1_wishOf_8 (mx1_lays (cx_l X) g a0 v2 a2 a1 0) (lw_V q1339 q1341 qs37 q125 q1342) hyx_X1_lays rfl hR (Nat.le_of_ble_eq_true rfl) (by decide) rfl rfl (Nat.zero_le _) ?_
  refine gx_aload_n C dX1_wishOf_11 0 rfl ?_
  refine gx_gR (O := "BorrowedLives") (nm := "town") (ds := "LBorrowedLives$Town;") (fin := false) C E dX1_wishOf_12 (by decide +kernel) (Or.inl q377) (fun _ h => h) (fun v12 => ?_)
  refine gx_gR (O := "BorrowedLives$Town") (nm := "wish") (ds := "LBorrowedLives$Expression;") (fin := false) C E dX1_wishOf_15 (by decide +kernel) (Or.inr ⟨_, q266⟩) (fun _ h => h) (fun v15 => ?_)
  refine gx_ifnonnull (tgt := 46) C dX1_wishOf_18 (by decide) (fun h18 => gj_neg h18 ?_) (fun h18 => gj_pos h18 ?_)
  · refine gx_aload_n C dX1_wishOf_46 0 rfl ?_
    refine gx_gR (O := "BorrowedLives") (nm := "town") (ds := "LBorrowedLives$Town;") (fin := false) C E dX1_wishOf_47 (by decide +kernel) (Or.inl q377) (fun _ h => h) (fun v47 => ?_)
    refine gx_gR (O := "BorrowedLives$Town") (nm := "wish") (ds := "LBorrowedLives$Expression;") (fin := false) C E dX1_wishOf_50 (by decide +kernel) (Or.inr ⟨_, q266⟩) (fun _ h => h) (fun v50 => ?_)
    refine gx_aload_n C dX1_wishOf_53 0 rfl ?_
    refine gx_gR (O := "BorrowedLives") (nm := "facts") (ds := "[I") (fin := true) C E dX1_wishOf_54 (by decide +kernel) (Or.inl q387) (fun _ h => h) (fun v54 => ?_)
    refine gx_shI (rest := []) (fun kk => ?_) (fun v57 => ?_)
    · refine gx_dcons (gx_callAI (x := ⟨"BorrowedLives$Expression", "worked", "([I)I"⟩) (owner := "BorrowedLives$Expression") (t0 := 10) (As := [rv g v54]) (rest := []) C E rfl dX1_wishOf_57 (mx12_worked (cx_l X) g v50 v54) q1344 q1346 q1350 q1351 q154 q1352 q1345 hy9_X11_worked hR (Nat.le_of_ble_eq_true rfl) (by decide) rfl rfl (Nat.zero_le _) kk) ?_
      refine gx_dcons (gx_callAI (x := ⟨"BorrowedLives$Expression", "worked", "([I)I"⟩) (owner := "BorrowedLives$Expression") (t0 := 11) (As := [rv g v54]) (rest := []) C E rfl dX1_wishOf_57 (mx13_worked (cx_l X) g v50 v54) q1344 q1346 q1347 q1348 q155 q1349 q1345 hy9_X11_worked hR (Nat.le_of_ble_eq_true rfl) (by decide) rfl rfl (Nat.zero_le _) kk) ?_
      refine gx_dcons (gx_callAI (x := ⟨"BorrowedLives$Expression", "worked", "([I)I"⟩) (owner := "BorrowedLives$Expression") (t0 := 12) (As := [rv g v54]) (rest := []) C E rfl dX1_wishOf_57 ((mxwk (cx_l X) g 700).1 v50 v54) q1344 q1346 q1353 q1354 q156 q1355 q1345 hy9_X11_worked hR (Nat.le_of_ble_eq_true rfl) (by decide) rfl rfl (Nat.zero_le _) kk) ?_
      refine gx_dcons (gx_callAI (x := ⟨"BorrowedLives$Expression", "worked", "([I)I"⟩) (owner := "BorrowedLives$Expression") (t0 := 13) (As := [rv g v54]) (rest := []) C E rfl dX1_wishOf_57 ((mxwk (cx_l X) g 700).2 v50 v54) q1344 q1346 q1360 q1357 q157 q1358 q1345 hy9_X11_worked hR (Nat.le_of_ble_eq_true rfl) (by decide) rfl rfl (Nat.zero_le _) kk) ?_
      exact gx_dnil
    exact gx_iret C hQ hr dX1_wishOf_60
  · refine gx_aload_n C dX1_wishOf_21 0 rfl ?_
    refine gx_gR (O := "BorrowedLives") (nm := "facts") (ds := "[I") (fin := true) C E dX1_wishOf_22 (by decide +kernel) (Or.inl q387) (fun _ h => h) (fun v22 => ?_)
    refine gj_iconst C dX1_wishOf_25 ?_
    refine gx_iald C E dX1_wishOf_26 (fun v26 => ?_)
    refine gx_aload_n C dX1_wishOf_27 0 rfl ?_
    refine gx_gR (O := "BorrowedLives") (nm := "facts") (ds := "[I") (fin := true) C E dX1_wishOf_28 (by decide +kernel) (Or.inl q387) (fun _ h => h) (fun v28 => ?_)
    refine gj_iconst C dX1_wishOf_31 ?_
    refine gx_iald C E dX1_wishOf_32 (fun v32 => ?_)
    refine gj_isub C dX1_wishOf_33 ?_
    refine gx_aload_n C dX1_wishOf_34 0 rfl ?_
    refine gx_gR (O := "BorrowedLives") (nm := "facts") (ds := "[I") (fin := true) C E dX1_wishOf_35 (by decide +kernel) (Or.inl q387) (fun _ h => h) (fun v35 => ?_)
    refine gj_iconst C dX1_wishOf_38 ?_
    refine gx_iald C E dX1_wishOf_39 (fun v39 => ?_)
    refine gj_iconst C dX1_wishOf_40 ?_
    refine gj_imul C dX1_wishOf_41 ?_
    refine gj_iadd C dX1_wishOf_42 ?_
    refine gj_goto (tgt := 60) C dX1_wishOf_43 (by decide) ?_
    exact gx_iret C hQ hr dX1_wishOf_60
def x1_wouldSwap (a0 : Option Nat) (a1 a2 : Int) : PT Hp Int :=
  pbnd (xrecv a0 1) fun _ =>
  pbnd (x1_wishOf a0 a1 a2) fun v3 =>
  pbnd (xrecv a0 1) fun _ =>
  pbnd (x1_wishOf a0 a1 a1) fun v9 =>
  pite (w32 v9 < w32 v3) (
    pbnd (xrecv a0 1) fun _ =>
    pbnd (x1_wishOf a0 a2 a1) fun v18 =>
    pbnd (xrecv a0 1) fun _ =>
    pbnd (x1_wishOf a0 a2 a2) fun v24 =>
    pite (w32 v24 < w32 v18) (
      pbnd (pzo 1) fun _ => pret 1) (
      pbnd (pzo 0) fun _ => pret 0)) (
    pbnd (pzo 0) fun _ => pret 0)
set_option maxHeartbeats 4000000 in
set_option maxRecDepth 100000 in
theorem mx1_wouldSwap (l : Launch) (g : XG) (a0 : Option Nat) (a1 a2 : Int) : XMet l g yX1_wouldSwap cX1_wouldSwap 3 (Option.some Jvm.ClassFile.FieldType.boolean) (703) [rv g a0, .int (iI a1), .int (iI a2)] (x1_wouldSwap a0 a1 a2) rvI := by
  refine gx_start (by decide +kernel) (by have e := lg_sl_len [rv g a0, .int (iI a1), .int (iI a2)]; simp only [List.map_cons, List.map_nil, List.sum_cons, List.sum_nil, rv_cat, cat_int, cat_long] at e; omega) (fun X Q σ0 hl C E hQ hR hr hnm => ?_)
  subst hl
  rw [show lv_args 0 [rv g a0, .int (iI a1), .int (iI a2)] = [(0, rv g a0), (1, .int (iI a1)), (2, .int (iI a2))] from by simp [lv_args, rv_cat, cat_int, cat_long]]
  show GJ X 3 (xWo g σ0 (cx_s X).heap) Q (x1_wouldSwap a0 a1 a2) 0 [(0, rv g a0), (1, .int (iI a1)), (2, .int (iI a2))] []
  unfold x1_wouldSwap
  refine gx_aload_n C dX1_wouldSwap_0 0 rfl ?_
  refine gj_iload_n C dX1_wouldSwap_1 1 rfl ?_
  refine gj_iload_n C dX1_wouldSwap_2 2 rfl ?_
  refine gx_callVI (t0 := 1) (As := [.int (iI a1), .int (iI a2)]) (rest := []) C E rfl dX1_wouldSwap_3 (mx1_wishOf (cx_l X) g a0 a1 a2) (lw_V q1615 q1617 qs48 q125 q1618) hyx_X1_wishOf rfl hR (Nat.le_of_ble_eq_true rfl) (by decide) rfl rfl (Nat.zero_le _) (fun v3 => ?_)
  refine gx_aload_n C dX1_wouldSwap_6 0 rfl ?_
  refine gj_iload_n C dX1_wouldSwap_7 1 rfl ?_
  refine gj_iload_n C dX1_wouldSwap_8 1 rfl ?_
  refine gx_callVI (t0 := 1) (As := [.int (iI a1), .int (iI a1)]) (rest := [.int (iI v3)]) C E rfl dX1_wouldSwap_9 (mx1_wishOf (cx_l X) g a0 a1 a1) (lw_V q1615 q1617 qs48 q125 q1618) hyx_X1_wishOf rfl hR (Nat.le_of_ble_eq_true rfl) (by decide) rfl rfl (Nat.le_of_ble_eq_true rfl) (fun v9 => ?_)
  refine gj_icmp_le (tgt := 34) C dX1_wouldSwap_12 (by decide) rfl rfl (fun h12 => gj_neg h12 ?_) (fun h12 => gj_pos h12 ?_)
  · refine gj_iconst C dX1_wouldSwap_34 ?_
    exact gx_zret C hQ hr dX1_wouldSwap_35
  · refine gx_aload_n C dX1_wouldSwap_15 0 rfl ?_
    refine gj_iload_n C dX1_wouldSwap_16 2 rfl ?_
    refine gj_iload_n C dX1_wouldSwap_17 1 rfl ?_
    refine gx_callVI (t0 := 1) (As := [.int (iI a2), .int (iI a1)]) (rest := []) C E rfl dX1_wouldSwap_18 (mx1_wishOf (cx_l X) g a0 a2 a1) (lw_V q1615 q1617 qs48 q125 q1618) hyx_X1_wishOf rfl hR (Nat.le_of_ble_eq_true rfl) (by decide) rfl rfl (Nat.zero_le _) (fun v18 => ?_)
    refine gx_aload_n C dX1_wouldSwap_21 0 rfl ?_
    refine gj_iload_n C dX1_wouldSwap_22 2 rfl ?_
    refine gj_iload_n C dX1_wouldSwap_23 2 rfl ?_
    refine gx_callVI (t0 := 1) (As := [.int (iI a2), .int (iI a2)]) (rest := [.int (iI v18)]) C E rfl dX1_wouldSwap_24 (mx1_wishOf (cx_l X) g a0 a2 a2) (lw_V q1615 q1617 qs48 q125 q1618) hyx_X1_wishOf rfl hR (Nat.le_of_ble_eq_true rfl) (by decide) rfl rfl (Nat.le_of_ble_eq_true rfl) (fun v24 => ?_)
    refine gj_icmp_le (tgt := 34) C dX1_wouldSwap_27 (by decide) rfl rfl (fun h27 => gj_neg h27 ?_) (fun h27 => gj_pos h27 ?_)
    · refine gj_iconst C dX1_wouldSwap_34 ?_
      exact gx_zret C hQ hr dX1_wouldSwap_35
    · refine gj_iconst C dX1_wouldSwap_30 ?_
      refine gj_goto (tgt := 35) C dX1_wouldSwap_31 (by decide) ?_
      exact gx_zret C hQ hr dX1_wouldSwap_35
def x1_pairs_2_s_j123 (self : Option Nat → Int → Int → PT Hp Unit) (a0 : Option Nat) (a1 a2 a3 : Int) (bk56 : (Int) → PT Hp Unit) : PT Hp Unit :=
  bk56 (a3 + 1)
def x1_pairs_2_s_b56 (self : Option Nat → Int → Int → PT Hp Unit) (a0 : Option Nat) (a1 a2 : Int) (a3 : Int) (bk56 : (Int) → PT Hp Unit) : PT Hp Unit :=
  pbnd (xrecv a0 1) fun _ =>
  pbnd (x1_people a0) fun v58 =>
  pite (w32 a3 < w32 v58) (
    pbnd (xgR a0 1 13) fun v65 =>
    pbnd (xld v65 40 a3) fun v69 =>
    pite (w32 v69 < 0) (
      pbnd (xrecv a0 1) fun _ =>
      pbnd (x1_wouldSwap a0 a1 a3) fun v76 =>
      pite (w32 v76 = 0) (
        x1_pairs_2_s_j123 self a0 a1 a2 a3 bk56) (
        pbnd (xgR a0 1 13) fun v86 =>
        pbnd (xst v86 40 a1 a3) fun _ =>
        pbnd (xgR a0 1 13) fun v93 =>
        pbnd (xst v93 40 a3 a1) fun _ =>
        pbnd (xrecv a0 1) fun _ =>
        pbnd (self a0 (a1 + 1) (a2 + 1)) fun _ =>
        pbnd (xgR a0 1 13) fun v110 =>
        pbnd (xst v110 40 a1 (-1)) fun _ =>
        pbnd (xgR a0 1 13) fun v117 =>
        pbnd (xst v117 40 a3 (-1)) fun _ =>
        x1_pairs_2_s_j123 self a0 a1 a2 a3 bk56)) (
      x1_pairs_2_s_j123 self a0 a1 a2 a3 bk56)) (
    pbnd (xrecv a0 1) fun _ =>
    pbnd (self a0 (a1 + 1) a2) fun _ =>
    pret ())
def x1_pairs_2_s_l56 (self : Option Nat → Int → Int → PT Hp Unit) (a0 : Option Nat) (a1 a2 a3 : Int) : PT Hp Unit :=
  ploop (fun (s : (Int)) bk56 => x1_pairs_2_s_b56 self a0 a1 a2 s bk56) (a3)
def x1_pairs_2_s (self : Option Nat → Int → Int → PT Hp Unit) (a0 : Option Nat) (a1 a2 : Int) : PT Hp Unit :=
  pbnd (xrecv a0 1) fun _ =>
  pbnd (x1_people a0) fun v2 =>
  pite (w32 a1 = w32 v2) (
    pbnd (xgI a0 1 15) fun v10 =>
    pite (w32 v10 < w32 a2) (
      pbnd (xpI a0 1 15 a2) fun _ =>
      pbnd (xgR a0 1 13) fun v23 =>
      pbnd (xgR a0 1 14) fun v27 =>
      pbnd (x1_copies v23 v27) fun _ =>
      pret ()) (
      pret ())) (
    pbnd (xgR a0 1 13) fun v35 =>
    pbnd (xld v35 40 a1) fun v39 =>
    pite (w32 v39 < 0) (
      plet (a1 + 1) fun x55 =>
      x1_pairs_2_s_l56 self a0 a1 a2 x55) (
      pbnd (xrecv a0 1) fun _ =>
      pbnd (self a0 (a1 + 1) a2) fun _ =>
      pret ()))
set_option maxHeartbeats 4000000 in
set_option maxRecDepth 100000 in
theorem mx1_pairs_2_s (l : Launch) (g : XG) {kS : Nat} (hkS : 704 ≤ kS) {self : Option Nat → Int → Int → PT Hp Unit} (hS : ∀ (a0 : Option Nat) (a1 a2 : Int), XMet l g yX1_pairs_2 cX1_pairs_2 4 (Option.none : Option Jvm.ClassFile.FieldType) (kS) [rv g a0, .int (iI a1), .int (iI a2)] (self a0 a1 a2) rvV) (a0 : Option Nat) (a1 a2 : Int) : XMet l g yX1_pairs_2 cX1_pairs_2 4 (Option.none : Option Jvm.ClassFile.FieldType) (kS + 1) [rv g a0, .int (iI a1), .int (iI a2)] (x1_pairs_2_s self a0 a1 a2) rvV := by
  refine gx_start (by decide +kernel) (by have e := lg_sl_len [rv g a0, .int (iI a1), .int (iI a2)]; simp only [List.map_cons, List.map_nil, List.sum_cons, List.sum_nil, rv_cat, cat_int, cat_long] at e; omega) (fun X Q σ0 hl C E hQ hR hr hnm => ?_)
  subst hl
  rw [show lv_args 0 [rv g a0, .int (iI a1), .int (iI a2)] = [(0, rv g a0), (1, .int (iI a1)), (2, .int (iI a2))] from by simp [lv_args, rv_cat, cat_int, cat_long]]
  show GJ X 4 (xWo g σ0 (cx_s X).heap) Q (x1_pairs_2_s self a0 a1 a2) 0 [(0, rv g a0), (1, .int (iI a1)), (2, .int (iI a2))] []
  have J56 : ∀ (a0 : Option Nat) (a1 a2 a3 : Int), GJ X 4 (xWo g σ0 (cx_s X).heap) Q (x1_pairs_2_s_l56 self a0 a1 a2 a3) 56 [(0, rv g a0), (1, .int (iI a1)), (2, .int (iI a2)), (3, .int (iI a3))] [] := by
    intro a0 a1 a2 a3
    unfold x1_pairs_2_s_l56
    refine gj_loop (fun (s : (Int)) => [(0, rv g a0), (1, .int (iI a1)), (2, .int (iI a2)), (3, .int (iI s))]) (a3) (fun bk56 hb56 s => ?_)
    obtain ⟨a3, rfl⟩ : ∃ z, z = s := ⟨s, rfl⟩
    show GJ X 4 (xWo g σ0 (cx_s X).heap) Q (x1_pairs_2_s_b56 self a0 a1 a2 a3 bk56) 56 [(0, rv g a0), (1, .int (iI a1)), (2, .int (iI a2)), (3, .int (iI a3))] []
    have J123 : ∀ (a3 : Int), GJ X 4 (xWo g σ0 (cx_s X).heap) Q (x1_pairs_2_s_j123 self a0 a1 a2 a3 bk56) 123 [(0, rv g a0), (1, .int (iI a1)), (2, .int (iI a2)), (3, .int (iI a3))] [] := by
      intro a3
      unfold x1_pairs_2_s_j123
      refine gj_iinc (L' := [(3, _), (0, _), (1, _), (2, _)]) C dX1_pairs_2_123 3 rfl (by decide) rfl ?_
      refine gj_goto (tgt := 56) C dX1_pairs_2_126 (by decide) ?_
      exact gj_to [1, 2, 3, 0] (hb56 (a3 + 1)) rfl
    unfold x1_pairs_2_s_b56
    refine gj_iload_n C dX1_pairs_2_56 3 rfl ?_
    refine gx_aload_n C dX1_pairs_2_57 0 rfl ?_
    refine gx_callVI (t0 := 1) (As := []) (rest := [.int (iI a3)]) C E rfl dX1_pairs_2_58 (mx1_people (cx_l X) g a0) (lw_V q1192 q1194 qs29 q125 q1195) hyx_X1_people rfl hR (by omega) (by decide) rfl rfl (Nat.le_of_ble_eq_true rfl) (fun v58 => ?_)
    refine gj_icmp_ge (tgt := 129) C dX1_pairs_2_61 (by decide) rfl rfl (fun h61 => gj_neg h61 ?_) (fun h61 => gj_pos h61 ?_)
    · refine gx_aload_n C dX1_pairs_2_129 0 rfl ?_
      refine gj_iload_n C dX1_pairs_2_130 1 rfl ?_
      refine gj_iconst C dX1_pairs_2_131 ?_
      refine gj_iadd C dX1_pairs_2_132 ?_
      refine gj_iload_n C dX1_pairs_2_133 2 rfl ?_
      refine gx_callVV (t0 := 1) (As := [.int (iI ((a1 + 1))), .int (iI a2)]) (rest := []) C E rfl dX1_pairs_2_134 (hS a0 (a1 + 1) a2) (lw_V q1607 q1609 qs46 q125 q1610) hyx_X1_pairs_2 rfl hR (by omega) (by decide) rfl rfl (Nat.zero_le _) ?_
      exact gx_vret C hQ hr dX1_pairs_2_137
    · refine gx_aload_n C dX1_pairs_2_64 0 rfl ?_
      refine gx_gR (O := "BorrowedLives") (nm := "pairOf") (ds := "[I") (fin := true) C E dX1_pairs_2_65 (by decide +kernel) (Or.inl q394) (fun _ h => h) (fun v65 => ?_)
      refine gj_iload_n C dX1_pairs_2_68 3 rfl ?_
      refine gx_iald C E dX1_pairs_2_69 (fun v69 => ?_)
      refine gj_if_ge (tgt := 123) C dX1_pairs_2_70 (by decide) (fun h70 => gj_neg h70 ?_) (fun h70 => gj_pos h70 ?_)
      · exact gj_to [0, 1, 2, 3] (J123 a3) rfl
      · refine gx_aload_n C dX1_pairs_2_73 0 rfl ?_
        refine gj_iload_n C dX1_pairs_2_74 1 rfl ?_
        refine gj_iload_n C dX1_pairs_2_75 3 rfl ?_
        refine gx_callVI (t0 := 1) (As := [.int (iI a1), .int (iI a3)]) (rest := []) C E rfl dX1_pairs_2_76 (mx1_wouldSwap (cx_l X) g a0 a1 a3) (lw_V q1611 q1613 qs47 q125 q1614) hyx_X1_wouldSwap rfl hR (by omega) (by decide) rfl rfl (Nat.zero_le _) (fun v76 => ?_)
        refine gj_if_ne (tgt := 85) C dX1_pairs_2_79 (by decide) (fun h79 => gj_neg h79 ?_) (fun h79 => gj_pos h79 ?_)
        · refine gx_aload_n C dX1_pairs_2_85 0 rfl ?_
          refine gx_gR (O := "BorrowedLives") (nm := "pairOf") (ds := "[I") (fin := true) C E dX1_pairs_2_86 (by decide +kernel) (Or.inl q394) (fun _ h => h) (fun v86 => ?_)
          refine gj_iload_n C dX1_pairs_2_89 1 rfl ?_
          refine gj_iload_n C dX1_pairs_2_90 3 rfl ?_
          refine gx_iast C E dX1_pairs_2_91 ?_
          refine gx_aload_n C dX1_pairs_2_92 0 rfl ?_
          refine gx_gR (O := "BorrowedLives") (nm := "pairOf") (ds := "[I") (fin := true) C E dX1_pairs_2_93 (by decide +kernel) (Or.inl q394) (fun _ h => h) (fun v93 => ?_)
          refine gj_iload_n C dX1_pairs_2_96 3 rfl ?_
          refine gj_iload_n C dX1_pairs_2_97 1 rfl ?_
          refine gx_iast C E dX1_pairs_2_98 ?_
          refine gx_aload_n C dX1_pairs_2_99 0 rfl ?_
          refine gj_iload_n C dX1_pairs_2_100 1 rfl ?_
          refine gj_iconst C dX1_pairs_2_101 ?_
          refine gj_iadd C dX1_pairs_2_102 ?_
          refine gj_iload_n C dX1_pairs_2_103 2 rfl ?_
          refine gj_iconst C dX1_pairs_2_104 ?_
          refine gj_iadd C dX1_pairs_2_105 ?_
          refine gx_callVV (t0 := 1) (As := [.int (iI ((a1 + 1))), .int (iI ((a2 + 1)))]) (rest := []) C E rfl dX1_pairs_2_106 (hS a0 (a1 + 1) (a2 + 1)) (lw_V q1607 q1609 qs46 q125 q1610) hyx_X1_pairs_2 rfl hR (by omega) (by decide) rfl rfl (Nat.zero_le _) ?_
          refine gx_aload_n C dX1_pairs_2_109 0 rfl ?_
          refine gx_gR (O := "BorrowedLives") (nm := "pairOf") (ds := "[I") (fin := true) C E dX1_pairs_2_110 (by decide +kernel) (Or.inl q394) (fun _ h => h) (fun v110 => ?_)
          refine gj_iload_n C dX1_pairs_2_113 1 rfl ?_
          refine gj_iconst C dX1_pairs_2_114 ?_
          refine gx_iast C E dX1_pairs_2_115 ?_
          refine gx_aload_n C dX1_pairs_2_116 0 rfl ?_
          refine gx_gR (O := "BorrowedLives") (nm := "pairOf") (ds := "[I") (fin := true) C E dX1_pairs_2_117 (by decide +kernel) (Or.inl q394) (fun _ h => h) (fun v117 => ?_)
          refine gj_iload_n C dX1_pairs_2_120 3 rfl ?_
          refine gj_iconst C dX1_pairs_2_121 ?_
          refine gx_iast C E dX1_pairs_2_122 ?_
          exact gj_to [0, 1, 2, 3] (J123 a3) rfl
        · refine gj_goto (tgt := 123) C dX1_pairs_2_82 (by decide) ?_
          exact gj_to [0, 1, 2, 3] (J123 a3) rfl
  unfold x1_pairs_2_s
  refine gj_iload_n C dX1_pairs_2_0 1 rfl ?_
  refine gx_aload_n C dX1_pairs_2_1 0 rfl ?_
  refine gx_callVI (t0 := 1) (As := []) (rest := [.int (iI a1)]) C E rfl dX1_pairs_2_2 (mx1_people (cx_l X) g a0) (lw_V q1192 q1194 qs29 q125 q1195) hyx_X1_people rfl hR (by omega) (by decide) rfl rfl (Nat.le_of_ble_eq_true rfl) (fun v2 => ?_)
  refine gj_icmp_ne (tgt := 34) C dX1_pairs_2_5 (by decide) rfl rfl (fun h5 => gj_neg h5 ?_) (fun h5 => gj_pos h5 ?_)
  · refine gx_aload_n C dX1_pairs_2_34 0 rfl ?_
    refine gx_gR (O := "BorrowedLives") (nm := "pairOf") (ds := "[I") (fin := true) C E dX1_pairs_2_35 (by decide +kernel) (Or.inl q394) (fun _ h => h) (fun v35 => ?_)
    refine gj_iload_n C dX1_pairs_2_38 1 rfl ?_
    refine gx_iald C E dX1_pairs_2_39 (fun v39 => ?_)
    refine gj_if_lt (tgt := 52) C dX1_pairs_2_40 (by decide) (fun h40 => gj_pos h40 ?_) (fun h40 => gj_neg h40 ?_)
    · refine gj_iload_n C dX1_pairs_2_52 1 rfl ?_
      refine gj_iconst C dX1_pairs_2_53 ?_
      refine gj_iadd C dX1_pairs_2_54 ?_
      refine gj_let (fun x55 => ?_)
      refine gj_istore_n (L' := [(3, _), (0, _), (1, _), (2, _)]) C dX1_pairs_2_55 (by decide) rfl ?_
      exact gj_to [1, 2, 3, 0] (J56 a0 a1 a2 x55) rfl
    · refine gx_aload_n C dX1_pairs_2_43 0 rfl ?_
      refine gj_iload_n C dX1_pairs_2_44 1 rfl ?_
      refine gj_iconst C dX1_pairs_2_45 ?_
      refine gj_iadd C dX1_pairs_2_46 ?_
      refine gj_iload_n C dX1_pairs_2_47 2 rfl ?_
      refine gx_callVV (t0 := 1) (As := [.int (iI ((a1 + 1))), .int (iI a2)]) (rest := []) C E rfl dX1_pairs_2_48 (hS a0 (a1 + 1) a2) (lw_V q1607 q1609 qs46 q125 q1610) hyx_X1_pairs_2 rfl hR (by omega) (by decide) rfl rfl (Nat.zero_le _) ?_
      exact gx_vret C hQ hr dX1_pairs_2_51
  · refine gj_iload_n C dX1_pairs_2_8 2 rfl ?_
    refine gx_aload_n C dX1_pairs_2_9 0 rfl ?_
    refine gx_gI (O := "BorrowedLives") (nm := "bestPairs") (ds := "I") (fin := false) C E dX1_pairs_2_10 (by decide +kernel) (Or.inl q396) (fun _ h => h) (fun v10 => ?_)
    refine gj_icmp_gt (tgt := 17) C dX1_pairs_2_13 (by decide) rfl rfl (fun h13 => gj_pos h13 ?_) (fun h13 => gj_neg h13 ?_)
    · refine gx_aload_n C dX1_pairs_2_17 0 rfl ?_
      refine gj_iload_n C dX1_pairs_2_18 2 rfl ?_
      refine gx_pI (O := "BorrowedLives") (nm := "bestPairs") (ds := "I") (fin := false) (ty := .int) C E dX1_pairs_2_19 (by decide +kernel) (Or.inl q396) (fun _ h => h) (fun h => by cases h) (by decide +kernel) (inty_int _) ?_
      refine gx_aload_n C dX1_pairs_2_22 0 rfl ?_
      refine gx_gR (O := "BorrowedLives") (nm := "pairOf") (ds := "[I") (fin := true) C E dX1_pairs_2_23 (by decide +kernel) (Or.inl q394) (fun _ h => h) (fun v23 => ?_)
      refine gx_aload_n C dX1_pairs_2_26 0 rfl ?_
      refine gx_gR (O := "BorrowedLives") (nm := "bestPair") (ds := "[I") (fin := true) C E dX1_pairs_2_27 (by decide +kernel) (Or.inl q395) (fun _ h => h) (fun v27 => ?_)
      refine gx_callSV (As := [rv g v23, rv g v27]) (rest := []) C E dX1_pairs_2_30 (mx1_copies (cx_l X) g v23 v27) (lw_S q1398 q1311 q125 q1312) hyx_X1_copies hR (by omega) (by decide) rfl rfl (Nat.zero_le _) ?_
      exact gx_vret C hQ hr dX1_pairs_2_33
    · exact gx_vret C hQ hr dX1_pairs_2_16
def x1_pairs_2 : Nat → Option Nat → Int → Int → PT Hp Unit
  | 0 => fun _ _ _ => pfail
  | n + 1 => x1_pairs_2_s (x1_pairs_2 n)
theorem mx1_pairs_2 (l : Launch) (g : XG) : ∀ (n : Nat), ∀ (a0 : Option Nat) (a1 a2 : Int), XMet l g yX1_pairs_2 cX1_pairs_2 4 (Option.none : Option Jvm.ClassFile.FieldType) (704 + n) [rv g a0, .int (iI a1), .int (iI a2)] (x1_pairs_2 n a0 a1 a2) rvV := by
  intro n
  induction n with
  | zero => intro a0 a1 a2 Q σ h; exact h.elim
  | succ n ih => intro a0 a1 a2; exact mx1_pairs_2_s l g (by omega) ih a0 a1 a2
def x1_pairs_b18 (a0 : Option Nat) (a1 : Int) (a2 : Int) (bk18 : (Int) → PT Hp Int) : PT Hp Int :=
  pite (w32 a2 < 6) (
    pbnd (xgR a0 1 13) fun v25 =>
    pbnd (xst v25 40 a2 (-1)) fun _ =>
    bk18 (a2 + 1)) (
    pbnd (xpI a0 1 15 (-1)) fun _ =>
    pbnd (xrecv a0 1) fun _ =>
    pbnd (x1_pairs_2 10 a0 0 0) fun _ =>
    pite (w32 a1 = (-1)) (
      pbnd (xgI a0 1 15) fun v54 =>
      pret v54) (
      pbnd (xgR a0 1 14) fun v61 =>
      pbnd (xld v61 40 a1) fun v65 =>
      pret v65))
def x1_pairs_l18 (a0 : Option Nat) (a1 a2 : Int) : PT Hp Int :=
  ploop (fun (s : (Int)) bk18 => x1_pairs_b18 a0 a1 s bk18) (a2)
def x1_pairs_j16 (a0 : Option Nat) (a1 : Int) : PT Hp Int :=
  x1_pairs_l18 a0 a1 0
def x1_pairs (a0 : Option Nat) (a1 : Int) : PT Hp Int :=
  pite (w32 a1 = (-1)) (
    x1_pairs_j16 a0 a1) (
    pbnd (xrecv a0 1) fun _ =>
    pbnd (x1_isPerson a0 a1) fun v7 =>
    pite (w32 v7 = 0) (
      pret (-2)) (
      x1_pairs_j16 a0 a1))
set_option maxHeartbeats 4000000 in
set_option maxRecDepth 100000 in
theorem mx1_pairs (l : Launch) (g : XG) (a0 : Option Nat) (a1 : Int) : XMet l g yX1_pairs cX1_pairs 3 (Option.some Jvm.ClassFile.FieldType.int) (715) [rv g a0, .int (iI a1)] (x1_pairs a0 a1) rvI := by
  refine gx_start (by decide +kernel) (by have e := lg_sl_len [rv g a0, .int (iI a1)]; simp only [List.map_cons, List.map_nil, List.sum_cons, List.sum_nil, rv_cat, cat_int, cat_long] at e; omega) (fun X Q σ0 hl C E hQ hR hr hnm => ?_)
  subst hl
  rw [show lv_args 0 [rv g a0, .int (iI a1)] = [(0, rv g a0), (1, .int (iI a1))] from by simp [lv_args, rv_cat, cat_int, cat_long]]
  show GJ X 3 (xWo g σ0 (cx_s X).heap) Q (x1_pairs a0 a1) 0 [(0, rv g a0), (1, .int (iI a1))] []
  have J18 : ∀ (a0 : Option Nat) (a1 a2 : Int), GJ X 3 (xWo g σ0 (cx_s X).heap) Q (x1_pairs_l18 a0 a1 a2) 18 [(0, rv g a0), (1, .int (iI a1)), (2, .int (iI a2))] [] := by
    intro a0 a1 a2
    unfold x1_pairs_l18
    refine gj_loop (fun (s : (Int)) => [(0, rv g a0), (1, .int (iI a1)), (2, .int (iI s))]) (a2) (fun bk18 hb18 s => ?_)
    obtain ⟨a2, rfl⟩ : ∃ z, z = s := ⟨s, rfl⟩
    show GJ X 3 (xWo g σ0 (cx_s X).heap) Q (x1_pairs_b18 a0 a1 a2 bk18) 18 [(0, rv g a0), (1, .int (iI a1)), (2, .int (iI a2))] []
    unfold x1_pairs_b18
    refine gj_iload_n C dX1_pairs_18 2 rfl ?_
    refine gj_bipush C dX1_pairs_19 rfl ?_
    refine gj_icmp_ge (tgt := 37) (b' := 6) C dX1_pairs_21 (by decide) rfl (by decide) (fun h21 => gj_neg h21 ?_) (fun h21 => gj_pos h21 ?_)
    · refine gx_aload_n C dX1_pairs_37 0 rfl ?_
      refine gj_iconst C dX1_pairs_38 ?_
      refine gx_pI (O := "BorrowedLives") (nm := "bestPairs") (ds := "I") (fin := false) (ty := .int) C E dX1_pairs_39 (by decide +kernel) (Or.inl q396) (fun _ h => h) (fun h => by cases h) (by decide +kernel) (inty_int _) ?_
      refine gx_aload_n C dX1_pairs_42 0 rfl ?_
      refine gj_iconst C dX1_pairs_43 ?_
      refine gj_iconst C dX1_pairs_44 ?_
      refine gx_callVV (t0 := 1) (As := [.int (iI 0), .int (iI 0)]) (rest := []) C E rfl dX1_pairs_45 (mx1_pairs_2 (cx_l X) g 10 a0 0 0) (lw_V q1607 q1609 qs46 q125 q1610) hyx_X1_pairs_2 rfl hR (Nat.le_of_ble_eq_true rfl) (by decide) rfl rfl (Nat.zero_le _) ?_
      refine gj_iload_n C dX1_pairs_48 1 rfl ?_
      refine gj_iconst C dX1_pairs_49 ?_
      refine gj_icmp_ne (tgt := 60) (b' := (-1)) C dX1_pairs_50 (by decide) rfl (by decide) (fun h50 => gj_neg h50 ?_) (fun h50 => gj_pos h50 ?_)
      · refine gx_aload_n C dX1_pairs_60 0 rfl ?_
        refine gx_gR (O := "BorrowedLives") (nm := "bestPair") (ds := "[I") (fin := true) C E dX1_pairs_61 (by decide +kernel) (Or.inl q395) (fun _ h => h) (fun v61 => ?_)
        refine gj_iload_n C dX1_pairs_64 1 rfl ?_
        refine gx_iald C E dX1_pairs_65 (fun v65 => ?_)
        exact gx_iret C hQ hr dX1_pairs_66
      · refine gx_aload_n C dX1_pairs_53 0 rfl ?_
        refine gx_gI (O := "BorrowedLives") (nm := "bestPairs") (ds := "I") (fin := false) C E dX1_pairs_54 (by decide +kernel) (Or.inl q396) (fun _ h => h) (fun v54 => ?_)
        refine gj_goto (tgt := 66) C dX1_pairs_57 (by decide) ?_
        exact gx_iret C hQ hr dX1_pairs_66
    · refine gx_aload_n C dX1_pairs_24 0 rfl ?_
      refine gx_gR (O := "BorrowedLives") (nm := "pairOf") (ds := "[I") (fin := true) C E dX1_pairs_25 (by decide +kernel) (Or.inl q394) (fun _ h => h) (fun v25 => ?_)
      refine gj_iload_n C dX1_pairs_28 2 rfl ?_
      refine gj_iconst C dX1_pairs_29 ?_
      refine gx_iast C E dX1_pairs_30 ?_
      refine gj_iinc (L' := [(2, _), (0, _), (1, _)]) C dX1_pairs_31 2 rfl (by decide) rfl ?_
      refine gj_goto (tgt := 18) C dX1_pairs_34 (by decide) ?_
      exact gj_to [1, 2, 0] (hb18 (a2 + 1)) rfl
  have J16 : ∀ (a0 : Option Nat) (a1 : Int), GJ X 3 (xWo g σ0 (cx_s X).heap) Q (x1_pairs_j16 a0 a1) 16 [(0, rv g a0), (1, .int (iI a1))] [] := by
    intro a0 a1
    unfold x1_pairs_j16
    refine gj_iconst C dX1_pairs_16 ?_
    refine gj_istore_n (L' := [(2, _), (0, _), (1, _)]) C dX1_pairs_17 (by decide) rfl ?_
    exact gj_to [1, 2, 0] (J18 a0 a1 0) rfl
  unfold x1_pairs
  refine gj_iload_n C dX1_pairs_0 1 rfl ?_
  refine gj_iconst C dX1_pairs_1 ?_
  refine gj_icmp_eq (tgt := 16) (b' := (-1)) C dX1_pairs_2 (by decide) rfl (by decide) (fun h2 => gj_pos h2 ?_) (fun h2 => gj_neg h2 ?_)
  · exact gj_to [0, 1] (J16 a0 a1) rfl
  · refine gx_aload_n C dX1_pairs_5 0 rfl ?_
    refine gj_iload_n C dX1_pairs_6 1 rfl ?_
    refine gx_callVI (t0 := 1) (As := [.int (iI a1)]) (rest := []) C E rfl dX1_pairs_7 (mx1_isPerson (cx_l X) g a0 a1) (lw_V q1188 q1190 qs28 q125 q1191) hyx_X1_isPerson rfl hR (Nat.le_of_ble_eq_true rfl) (by decide) rfl rfl (Nat.zero_le _) (fun v7 => ?_)
    refine gj_if_ne (tgt := 16) C dX1_pairs_10 (by decide) (fun h10 => gj_neg h10 ?_) (fun h10 => gj_pos h10 ?_)
    · exact gj_to [0, 1] (J16 a0 a1) rfl
    · refine gj_bipush C dX1_pairs_13 rfl ?_
      exact gx_iret C hQ hr dX1_pairs_15
def x1_tale (a0 : Option Nat) (a1 a2 a3 : Int) : PT Hp Int :=
  pbnd (xrecv a0 1) fun _ =>
  pbnd (x1_isPerson a0 a1) fun v2 =>
  pite (w32 v2 = 0) (
    pbnd (pzo 0) fun _ => pret 0) (
    pbnd (x1_in a2 1 7) fun v12 =>
    pite (w32 v12 = 0) (
      pbnd (pzo 0) fun _ => pret 0) (
      pbnd (x1_in a3 0 9999) fun v23 =>
      pite (w32 v23 = 0) (
        pbnd (pzo 0) fun _ => pret 0) (
        pbnd (xgI a0 1 19) fun v30 =>
        pite (w32 v30 = 8) (
          pbnd (pzo 0) fun _ => pret 0) (
          pbnd (xgR a0 1 16) fun v41 =>
          pbnd (xgI a0 1 19) fun v45 =>
          pbnd (xst v41 40 v45 a1) fun _ =>
          pbnd (xgR a0 1 17) fun v51 =>
          pbnd (xgI a0 1 19) fun v55 =>
          pbnd (xst v51 40 v55 a2) fun _ =>
          pbnd (xgR a0 1 18) fun v61 =>
          pbnd (xgI a0 1 19) fun v66 =>
          pbnd (xpI a0 1 19 (v66 + 1)) fun _ =>
          pbnd (xst v61 40 v66 a3) fun _ =>
          pbnd (pzo 1) fun _ => pret 1))))
set_option maxHeartbeats 4000000 in
set_option maxRecDepth 100000 in
theorem mx1_tale (l : Launch) (g : XG) (a0 : Option Nat) (a1 a2 a3 : Int) : XMet l g yX1_tale cX1_tale 4 (Option.some Jvm.ClassFile.FieldType.boolean) (3) [rv g a0, .int (iI a1), .int (iI a2), .int (iI a3)] (x1_tale a0 a1 a2 a3) rvI := by
  refine gx_start (by decide +kernel) (by have e := lg_sl_len [rv g a0, .int (iI a1), .int (iI a2), .int (iI a3)]; simp only [List.map_cons, List.map_nil, List.sum_cons, List.sum_nil, rv_cat, cat_int, cat_long] at e; omega) (fun X Q σ0 hl C E hQ hR hr hnm => ?_)
  subst hl
  rw [show lv_args 0 [rv g a0, .int (iI a1), .int (iI a2), .int (iI a3)] = [(0, rv g a0), (1, .int (iI a1)), (2, .int (iI a2)), (3, .int (iI a3))] from by simp [lv_args, rv_cat, cat_int, cat_long]]
  show GJ X 4 (xWo g σ0 (cx_s X).heap) Q (x1_tale a0 a1 a2 a3) 0 [(0, rv g a0), (1, .int (iI a1)), (2, .int (iI a2)), (3, .int (iI a3))] []
  unfold x1_tale
  refine gx_aload_n C dX1_tale_0 0 rfl ?_
  refine gj_iload_n C dX1_tale_1 1 rfl ?_
  refine gx_callVI (t0 := 1) (As := [.int (iI a1)]) (rest := []) C E rfl dX1_tale_2 (mx1_isPerson (cx_l X) g a0 a1) (lw_V q1188 q1190 qs28 q125 q1191) hyx_X1_isPerson rfl hR (Nat.le_of_ble_eq_true rfl) (by decide) rfl rfl (Nat.zero_le _) (fun v2 => ?_)
  refine gj_if_eq (tgt := 38) C dX1_tale_5 (by decide) (fun h5 => gj_pos h5 ?_) (fun h5 => gj_neg h5 ?_)
  · refine gj_iconst C dX1_tale_38 ?_
    exact gx_zret C hQ hr dX1_tale_39
  · refine gj_iload_n C dX1_tale_8 2 rfl ?_
    refine gj_iconst C dX1_tale_9 ?_
    refine gj_bipush C dX1_tale_10 rfl ?_
    refine gx_callSI (As := [.int (iI a2), .int (iI 1), .int (iI 7)]) (rest := []) C E dX1_tale_12 (mx1_in (cx_l X) g a2 1 7) (lw_S q1197 q1198 q125 q1199) hyx_X1_in hR (Nat.le_of_ble_eq_true rfl) (by decide) rfl rfl (Nat.zero_le _) (fun v12 => ?_)
    refine gj_if_eq (tgt := 38) C dX1_tale_15 (by decide) (fun h15 => gj_pos h15 ?_) (fun h15 => gj_neg h15 ?_)
    · refine gj_iconst C dX1_tale_38 ?_
      exact gx_zret C hQ hr dX1_tale_39
    · refine gj_iload_n C dX1_tale_18 3 rfl ?_
      refine gj_iconst C dX1_tale_19 ?_
      refine gj_sipush C dX1_tale_20 rfl ?_
      refine gx_callSI (As := [.int (iI a3), .int (iI 0), .int (iI 9999)]) (rest := []) C E dX1_tale_23 (mx1_in (cx_l X) g a3 0 9999) (lw_S q1197 q1198 q125 q1199) hyx_X1_in hR (Nat.le_of_ble_eq_true rfl) (by decide) rfl rfl (Nat.zero_le _) (fun v23 => ?_)
      refine gj_if_eq (tgt := 38) C dX1_tale_26 (by decide) (fun h26 => gj_pos h26 ?_) (fun h26 => gj_neg h26 ?_)
      · refine gj_iconst C dX1_tale_38 ?_
        exact gx_zret C hQ hr dX1_tale_39
      · refine gx_aload_n C dX1_tale_29 0 rfl ?_
        refine gx_gI (O := "BorrowedLives") (nm := "tales") (ds := "I") (fin := false) C E dX1_tale_30 (by decide +kernel) (Or.inl q400) (fun _ h => h) (fun v30 => ?_)
        refine gj_bipush C dX1_tale_33 rfl ?_
        refine gj_icmp_ne (tgt := 40) (b' := 8) C dX1_tale_35 (by decide) rfl (by decide) (fun h35 => gj_neg h35 ?_) (fun h35 => gj_pos h35 ?_)
        · refine gx_aload_n C dX1_tale_40 0 rfl ?_
          refine gx_gR (O := "BorrowedLives") (nm := "taleLife") (ds := "[I") (fin := true) C E dX1_tale_41 (by decide +kernel) (Or.inl q397) (fun _ h => h) (fun v41 => ?_)
          refine gx_aload_n C dX1_tale_44 0 rfl ?_
          refine gx_gI (O := "BorrowedLives") (nm := "tales") (ds := "I") (fin := false) C E dX1_tale_45 (by decide +kernel) (Or.inl q400) (fun _ h => h) (fun v45 => ?_)
          refine gj_iload_n C dX1_tale_48 1 rfl ?_
          refine gx_iast C E dX1_tale_49 ?_
          refine gx_aload_n C dX1_tale_50 0 rfl ?_
          refine gx_gR (O := "BorrowedLives") (nm := "taleDay") (ds := "[I") (fin := true) C E dX1_tale_51 (by decide +kernel) (Or.inl q398) (fun _ h => h) (fun v51 => ?_)
          refine gx_aload_n C dX1_tale_54 0 rfl ?_
          refine gx_gI (O := "BorrowedLives") (nm := "tales") (ds := "I") (fin := false) C E dX1_tale_55 (by decide +kernel) (Or.inl q400) (fun _ h => h) (fun v55 => ?_)
          refine gj_iload_n C dX1_tale_58 2 rfl ?_
          refine gx_iast C E dX1_tale_59 ?_
          refine gx_aload_n C dX1_tale_60 0 rfl ?_
          refine gx_gR (O := "BorrowedLives") (nm := "talePurse") (ds := "[I") (fin := true) C E dX1_tale_61 (by decide +kernel) (Or.inl q399) (fun _ h => h) (fun v61 => ?_)
          refine gx_aload_n C dX1_tale_64 0 rfl ?_
          refine gx_dup C dX1_tale_65 ?_
          refine gx_gI (O := "BorrowedLives") (nm := "tales") (ds := "I") (fin := false) C E dX1_tale_66 (by decide +kernel) (Or.inl q400) (fun _ h => h) (fun v66 => ?_)
          refine gj_dup_x1 C dX1_tale_69 rfl (rv_cat _ _) ?_
          refine gj_iconst C dX1_tale_70 ?_
          refine gj_iadd C dX1_tale_71 ?_
          refine gx_pI (O := "BorrowedLives") (nm := "tales") (ds := "I") (fin := false) (ty := .int) C E dX1_tale_72 (by decide +kernel) (Or.inl q400) (fun _ h => h) (fun h => by cases h) (by decide +kernel) (inty_int _) ?_
          refine gj_iload_n C dX1_tale_75 3 rfl ?_
          refine gx_iast C E dX1_tale_76 ?_
          refine gj_iconst C dX1_tale_77 ?_
          exact gx_zret C hQ hr dX1_tale_78
        · refine gj_iconst C dX1_tale_38 ?_
          exact gx_zret C hQ hr dX1_tale_39
def x27_init (a0 a1 : Option Nat) : PT Hp Unit :=
  pbnd (xpR a0 23 4 a1) fun _ =>
  pbnd (xnn a0) fun _ =>
  pbnd (x22_init a0 a1) fun _ =>
  pbnd (xnewa 40 6) fun v13 =>
  pbnd (xpR a0 23 2 v13) fun _ =>
  pret ()
set_option maxHeartbeats 4000000 in
set_option maxRecDepth 100000 in
theorem mx27_init (l : Launch) (g : XG) (a0 a1 : Option Nat) : XMet l g yX27_init cX27_init 2 (Option.none : Option Jvm.ClassFile.FieldType) (2) [rv g a0, rv g a1] (x27_init a0 a1) rvV := by
  refine gx_start (by decide +kernel) (by have e := lg_sl_len [rv g a0, rv g a1]; simp only [List.map_cons, List.map_nil, List.sum_cons, List.sum_nil, rv_cat, cat_int, cat_long] at e; omega) (fun X Q σ0 hl C E hQ hR hr hnm => ?_)
  subst hl
  rw [show lv_args 0 [rv g a0, rv g a1] = [(0, rv g a0), (1, rv g a1)] from by simp [lv_args, rv_cat, cat_int, cat_long]]
  show GJ X 2 (xWo g σ0 (cx_s X).heap) Q (x27_init a0 a1) 0 [(0, rv g a0), (1, rv g a1)] []
  unfold x27_init
  refine gx_aload_n C dX27_init_0 0 rfl ?_
  refine gx_aload_n C dX27_init_1 1 rfl ?_
  refine gx_pR (O := "BorrowedLives$Fits") (nm := "this$0") (ds := "LBorrowedLives;") (fin := true) (ty := (.object "BorrowedLives")) C E dX27_init_2 (by decide +kernel) (Or.inl q1637) (fun _ h => h) (fun _ => ⟨hnm, rfl⟩) (by decide +kernel) (by decide) ?_
  refine gx_aload_n C dX27_init_5 0 rfl ?_
  refine gx_aload_n C dX27_init_6 1 rfl ?_
  refine gx_callINV (As := [rv g a1]) (rest := []) C E dX27_init_7 (mx22_init (cx_l X) g a0 a1) (lw_meth q1257) q164 q1632 q1256 rfl hyx_X22_init hR (Nat.le_of_ble_eq_true rfl) (by decide) rfl rfl (Nat.zero_le _) ?_
  refine gx_aload_n C dX27_init_10 0 rfl ?_
  refine gj_bipush C dX27_init_11 rfl ?_
  refine gx_newa (t0 := 0) C E dX27_init_13 (by decide) rfl q340 (by decide) rfl (fun v13 => ?_)
  refine gx_pR (O := "BorrowedLives$Fits") (nm := "selves") (ds := "[I") (fin := true) (ty := (.array .int)) C E dX27_init_15 (by decide +kernel) (Or.inl q1633) (fun _ h => h) (fun _ => ⟨hnm, rfl⟩) (by decide +kernel) (by decide) ?_
  exact gx_vret C hQ hr dX27_init_18
def x1_how (a0 : Option Nat) : PT Hp Int :=
  pbnd (xnew 23) fun v0 =>
  pbnd (xnn v0) fun _ =>
  pbnd (x27_init v0 a0) fun _ =>
  pbnd (xrecv a0 1) fun _ =>
  pbnd (x1_shows a0 v0) fun _ =>
  pbnd (xgI v0 23 3) fun v15 =>
  pret v15
set_option maxHeartbeats 4000000 in
set_option maxRecDepth 100000 in
theorem mx1_how (l : Launch) (g : XG) (a0 : Option Nat) : XMet l g yX1_how cX1_how 2 (Option.some Jvm.ClassFile.FieldType.int) (718) [rv g a0] (x1_how a0) rvI := by
  refine gx_start (by decide +kernel) (by have e := lg_sl_len [rv g a0]; simp only [List.map_cons, List.map_nil, List.sum_cons, List.sum_nil, rv_cat, cat_int, cat_long] at e; omega) (fun X Q σ0 hl C E hQ hR hr hnm => ?_)
  subst hl
  rw [show lv_args 0 [rv g a0] = [(0, rv g a0)] from by simp [lv_args, rv_cat, cat_int, cat_long]]
  show GJ X 2 (xWo g σ0 (cx_s X).heap) Q (x1_how a0) 0 [(0, rv g a0)] []
  unfold x1_how
  refine gx_new (t0 := 23) C E dX1_how_0 rfl q1627 q1628 q170 (fun v0 => ?_)
  refine gx_dup C dX1_how_3 ?_
  refine gx_aload_n C dX1_how_4 0 rfl ?_
  refine gx_callINV (As := [rv g a0]) (rest := [rv g v0]) C E dX1_how_5 (mx27_init (cx_l X) g v0 a0) (lw_meth q1631) q170 q1629 q1630 rfl hyx_X27_init hR (Nat.le_of_ble_eq_true rfl) (by decide) rfl rfl (by simp only [List.map_cons, List.map_nil, List.sum_cons, List.sum_nil, rv_cat, cat_int, cat_long]; decide) ?_
  refine gx_astore_n (L' := [(1, rv g v0), (0, rv g a0)]) C dX1_how_8 (by decide) (by simp [List.filter, rv_cat, cat_int, cat_long, fin4_3]) ?_
  refine gx_aload_n C dX1_how_9 1 rfl ?_
  refine gx_aload_n C dX1_how_10 0 rfl ?_
  refine gx_callVV (t0 := 1) (As := [rv g v0]) (rest := []) C E rfl dX1_how_11 (mx1_shows (cx_l X) g a0 v0) (lw_V q1288 q1290 qs32 q125 q1291) hyx_X1_shows rfl hR (Nat.le_of_ble_eq_true rfl) (by decide) rfl rfl (Nat.zero_le _) ?_
  refine gx_aload_n C dX1_how_14 0 rfl ?_
  refine gx_gI (O := "BorrowedLives$Fits") (nm := "many") (ds := "I") (fin := false) C E dX1_how_15 (by decide +kernel) (Or.inr ⟨_, q1636⟩) (fun _ h => h) (fun v15 => ?_)
  exact gx_iret C hQ hr dX1_how_18
def j18_bitCount (a0 : Int) : PT Hp Int :=
  plet (a0 - (zand (zushr a0 1) 1431655765)) fun x9 =>
  plet ((zand x9 858993459) + (zand (zushr x9 2) 858993459)) fun x23 =>
  plet (zand ((x23 + (zushr x23 4))) 252645135) fun x33 =>
  plet (x33 + (zushr x33 8)) fun x40 =>
  plet (x40 + (zushr x40 16)) fun x47 =>
  pret (zand x47 63)
set_option maxHeartbeats 4000000 in
set_option maxRecDepth 100000 in
theorem mj18_bitCount (l : Launch) (g : XG) (a0 : Int) : XMet l g yJ18_bitCount cJ18_bitCount 1 (Option.some Jvm.ClassFile.FieldType.int) (0) [.int (iI a0)] (j18_bitCount a0) rvI := by
  refine gx_start (by decide +kernel) (by have e := lg_sl_len [.int (iI a0)]; simp only [List.map_cons, List.map_nil, List.sum_cons, List.sum_nil, rv_cat, cat_int, cat_long] at e; omega) (fun X Q σ0 hl C E hQ hR hr hnm => ?_)
  subst hl
  show GJ X 1 (xWo g σ0 (cx_s X).heap) Q (j18_bitCount a0) 0 [(0, .int (iI a0))] []
  unfold j18_bitCount
  refine gj_iload_n C dJ18_bitCount_0 0 rfl ?_
  refine gj_iload_n C dJ18_bitCount_1 0 rfl ?_
  refine gj_iconst C dJ18_bitCount_2 ?_
  refine gj_iushr C dJ18_bitCount_3 ?_
  refine gj_ldcw (z := 1431655765) C dJ18_bitCount_4 q1654 (by decide) ?_
  refine gj_iand C dJ18_bitCount_7 ?_
  refine gj_isub C dJ18_bitCount_8 ?_
  refine gj_let (fun x9 => ?_)
  refine gj_istore_n (L' := [(0, _)]) C dJ18_bitCount_9 (by decide) rfl ?_
  refine gj_iload_n C dJ18_bitCount_10 0 rfl ?_
  refine gj_ldcw (z := 858993459) C dJ18_bitCount_11 q1655 (by decide) ?_
  refine gj_iand C dJ18_bitCount_14 ?_
  refine gj_iload_n C dJ18_bitCount_15 0 rfl ?_
  refine gj_iconst C dJ18_bitCount_16 ?_
  refine gj_iushr C dJ18_bitCount_17 ?_
  refine gj_ldcw (z := 858993459) C dJ18_bitCount_18 q1655 (by decide) ?_
  refine gj_iand C dJ18_bitCount_21 ?_
  refine gj_iadd C dJ18_bitCount_22 ?_
  refine gj_let (fun x23 => ?_)
  refine gj_istore_n (L' := [(0, _)]) C dJ18_bitCount_23 (by decide) rfl ?_
  refine gj_iload_n C dJ18_bitCount_24 0 rfl ?_
  refine gj_iload_n C dJ18_bitCount_25 0 rfl ?_
  refine gj_iconst C dJ18_bitCount_26 ?_
  refine gj_iushr C dJ18_bitCount_27 ?_
  refine gj_iadd C dJ18_bitCount_28 ?_
  refine gj_ldcw (z := 252645135) C dJ18_bitCount_29 q1656 (by decide) ?_
  refine gj_iand C dJ18_bitCount_32 ?_
  refine gj_let (fun x33 => ?_)
  refine gj_istore_n (L' := [(0, _)]) C dJ18_bitCount_33 (by decide) rfl ?_
  refine gj_iload_n C dJ18_bitCount_34 0 rfl ?_
  refine gj_iload_n C dJ18_bitCount_35 0 rfl ?_
  refine gj_bipush C dJ18_bitCount_36 rfl ?_
  refine gj_iushr C dJ18_bitCount_38 ?_
  refine gj_iadd C dJ18_bitCount_39 ?_
  refine gj_let (fun x40 => ?_)
  refine gj_istore_n (L' := [(0, _)]) C dJ18_bitCount_40 (by decide) rfl ?_
  refine gj_iload_n C dJ18_bitCount_41 0 rfl ?_
  refine gj_iload_n C dJ18_bitCount_42 0 rfl ?_
  refine gj_bipush C dJ18_bitCount_43 rfl ?_
  refine gj_iushr C dJ18_bitCount_45 ?_
  refine gj_iadd C dJ18_bitCount_46 ?_
  refine gj_let (fun x47 => ?_)
  refine gj_istore_n (L' := [(0, _)]) C dJ18_bitCount_47 (by decide) rfl ?_
  refine gj_iload_n C dJ18_bitCount_48 0 rfl ?_
  refine gj_bipush C dJ18_bitCount_49 rfl ?_
  refine gj_iand C dJ18_bitCount_51 ?_
  exact gx_iret C hQ hr dJ18_bitCount_52
def j18_numberOfTrailingZeros_j74 (a0 a1 : Int) : PT Hp Int :=
  pret (a1 + (zushr a0 1))
def j18_numberOfTrailingZeros_j62 (a0 a1 : Int) : PT Hp Int :=
  pite (4 < w32 a0) (
    plet (zushr a0 2) fun x73 =>
    j18_numberOfTrailingZeros_j74 x73 (a1 + 2)) (
    j18_numberOfTrailingZeros_j74 a0 a1)
def j18_numberOfTrailingZeros_j49 (a0 a1 : Int) : PT Hp Int :=
  pite (16 < w32 a0) (
    plet (zushr a0 4) fun x61 =>
    j18_numberOfTrailingZeros_j62 x61 (a1 + 4)) (
    j18_numberOfTrailingZeros_j62 a0 a1)
def j18_numberOfTrailingZeros_j34 (a0 a1 : Int) : PT Hp Int :=
  pite (256 < w32 a0) (
    plet (zushr a0 8) fun x48 =>
    j18_numberOfTrailingZeros_j49 x48 (a1 + 8)) (
    j18_numberOfTrailingZeros_j49 a0 a1)
def j18_numberOfTrailingZeros (a0 : Int) : PT Hp Int :=
  plet (zand (zxor a0 (-1)) ((a0 - 1))) fun x7 =>
  pite (0 < w32 x7) (
    pite (65536 < w32 x7) (
      plet (zushr x7 16) fun x33 =>
      j18_numberOfTrailingZeros_j34 x33 (1 + 16)) (
      j18_numberOfTrailingZeros_j34 x7 1)) (
    pret (zand x7 32))
set_option maxHeartbeats 4000000 in
set_option maxRecDepth 100000 in
theorem mj18_numberOfTrailingZeros (l : Launch) (g : XG) (a0 : Int) : XMet l g yJ18_numberOfTrailingZeros cJ18_numberOfTrailingZeros 2 (Option.some Jvm.ClassFile.FieldType.int) (0) [.int (iI a0)] (j18_numberOfTrailingZeros a0) rvI := by
  refine gx_start (by decide +kernel) (by have e := lg_sl_len [.int (iI a0)]; simp only [List.map_cons, List.map_nil, List.sum_cons, List.sum_nil, rv_cat, cat_int, cat_long] at e; omega) (fun X Q σ0 hl C E hQ hR hr hnm => ?_)
  subst hl
  show GJ X 2 (xWo g σ0 (cx_s X).heap) Q (j18_numberOfTrailingZeros a0) 0 [(0, .int (iI a0))] []
  have J74 : ∀ (a0 a1 : Int), GJ X 2 (xWo g σ0 (cx_s X).heap) Q (j18_numberOfTrailingZeros_j74 a0 a1) 74 [(0, .int (iI a0)), (1, .int (iI a1))] [] := by
    intro a0 a1
    unfold j18_numberOfTrailingZeros_j74
    refine gj_iload_n C dJ18_numberOfTrailingZeros_74 1 rfl ?_
    refine gj_iload_n C dJ18_numberOfTrailingZeros_75 0 rfl ?_
    refine gj_iconst C dJ18_numberOfTrailingZeros_76 ?_
    refine gj_iushr C dJ18_numberOfTrailingZeros_77 ?_
    refine gj_iadd C dJ18_numberOfTrailingZeros_78 ?_
    exact gx_iret C hQ hr dJ18_numberOfTrailingZeros_79
  have J62 : ∀ (a0 a1 : Int), GJ X 2 (xWo g σ0 (cx_s X).heap) Q (j18_numberOfTrailingZeros_j62 a0 a1) 62 [(0, .int (iI a0)), (1, .int (iI a1))] [] := by
    intro a0 a1
    unfold j18_numberOfTrailingZeros_j62
    refine gj_iload_n C dJ18_numberOfTrailingZeros_62 0 rfl ?_
    refine gj_iconst C dJ18_numberOfTrailingZeros_63 ?_
    refine gj_icmp_le (tgt := 74) (b' := 4) C dJ18_numberOfTrailingZeros_64 (by decide) rfl (by decide) (fun h64 => gj_neg h64 ?_) (fun h64 => gj_pos h64 ?_)
    · exact gj_to [0, 1] (J74 a0 a1) rfl
    · refine gj_iinc (L' := [(1, _), (0, _)]) C dJ18_numberOfTrailingZeros_67 1 rfl (by decide) rfl ?_
      refine gj_iload_n C dJ18_numberOfTrailingZeros_70 1 rfl ?_
      refine gj_iconst C dJ18_numberOfTrailingZeros_71 ?_
      refine gj_iushr C dJ18_numberOfTrailingZeros_72 ?_
      refine gj_let (fun x73 => ?_)
      refine gj_istore_n (L' := [(0, _), (1, _)]) C dJ18_numberOfTrailingZeros_73 (by decide) rfl ?_
      exact gj_to [0, 1] (J74 x73 (a1 + 2)) rfl
  have J49 : ∀ (a0 a1 : Int), GJ X 2 (xWo g σ0 (cx_s X).heap) Q (j18_numberOfTrailingZeros_j49 a0 a1) 49 [(0, .int (iI a0)), (1, .int (iI a1))] [] := by
    intro a0 a1
    unfold j18_numberOfTrailingZeros_j49
    refine gj_iload_n C dJ18_numberOfTrailingZeros_49 0 rfl ?_
    refine gj_bipush C dJ18_numberOfTrailingZeros_50 rfl ?_
    refine gj_icmp_le (tgt := 62) (b' := 16) C dJ18_numberOfTrailingZeros_52 (by decide) rfl (by decide) (fun h52 => gj_neg h52 ?_) (fun h52 => gj_pos h52 ?_)
    · exact gj_to [0, 1] (J62 a0 a1) rfl
    · refine gj_iinc (L' := [(1, _), (0, _)]) C dJ18_numberOfTrailingZeros_55 1 rfl (by decide) rfl ?_
      refine gj_iload_n C dJ18_numberOfTrailingZeros_58 1 rfl ?_
      refine gj_iconst C dJ18_numberOfTrailingZeros_59 ?_
      refine gj_iushr C dJ18_numberOfTrailingZeros_60 ?_
      refine gj_let (fun x61 => ?_)
      refine gj_istore_n (L' := [(0, _), (1, _)]) C dJ18_numberOfTrailingZeros_61 (by decide) rfl ?_
      exact gj_to [0, 1] (J62 x61 (a1 + 4)) rfl
  have J34 : ∀ (a0 a1 : Int), GJ X 2 (xWo g σ0 (cx_s X).heap) Q (j18_numberOfTrailingZeros_j34 a0 a1) 34 [(0, .int (iI a0)), (1, .int (iI a1))] [] := by
    intro a0 a1
    unfold j18_numberOfTrailingZeros_j34
    refine gj_iload_n C dJ18_numberOfTrailingZeros_34 0 rfl ?_
    refine gj_sipush C dJ18_numberOfTrailingZeros_35 rfl ?_
    refine gj_icmp_le (tgt := 49) (b' := 256) C dJ18_numberOfTrailingZeros_38 (by decide) rfl (by decide) (fun h38 => gj_neg h38 ?_) (fun h38 => gj_pos h38 ?_)
    · exact gj_to [0, 1] (J49 a0 a1) rfl
    · refine gj_iinc (L' := [(1, _), (0, _)]) C dJ18_numberOfTrailingZeros_41 1 rfl (by decide) rfl ?_
      refine gj_iload_n C dJ18_numberOfTrailingZeros_44 1 rfl ?_
      refine gj_bipush C dJ18_numberOfTrailingZeros_45 rfl ?_
      refine gj_iushr C dJ18_numberOfTrailingZeros_47 ?_
      refine gj_let (fun x48 => ?_)
      refine gj_istore_n (L' := [(0, _), (1, _)]) C dJ18_numberOfTrailingZeros_48 (by decide) rfl ?_
      exact gj_to [0, 1] (J49 x48 (a1 + 8)) rfl
  unfold j18_numberOfTrailingZeros
  refine gj_iload_n C dJ18_numberOfTrailingZeros_0 0 rfl ?_
  refine gj_iconst C dJ18_numberOfTrailingZeros_1 ?_
  refine gj_ixor C dJ18_numberOfTrailingZeros_2 ?_
  refine gj_iload_n C dJ18_numberOfTrailingZeros_3 0 rfl ?_
  refine gj_iconst C dJ18_numberOfTrailingZeros_4 ?_
  refine gj_isub C dJ18_numberOfTrailingZeros_5 ?_
  refine gj_iand C dJ18_numberOfTrailingZeros_6 ?_
  refine gj_let (fun x7 => ?_)
  refine gj_istore_n (L' := [(0, _)]) C dJ18_numberOfTrailingZeros_7 (by decide) rfl ?_
  refine gj_iload_n C dJ18_numberOfTrailingZeros_8 0 rfl ?_
  refine gj_if_gt (tgt := 17) C dJ18_numberOfTrailingZeros_9 (by decide) (fun h9 => gj_pos h9 ?_) (fun h9 => gj_neg h9 ?_)
  · refine gj_iconst C dJ18_numberOfTrailingZeros_17 ?_
    refine gj_istore_n (L' := [(1, _), (0, _)]) C dJ18_numberOfTrailingZeros_18 (by decide) rfl ?_
    refine gj_iload_n C dJ18_numberOfTrailingZeros_19 1 rfl ?_
    refine gj_ldcw (z := 65536) C dJ18_numberOfTrailingZeros_20 q1660 (by decide) ?_
    refine gj_icmp_le (tgt := 34) (b' := 65536) C dJ18_numberOfTrailingZeros_23 (by decide) rfl (by decide) (fun h23 => gj_neg h23 ?_) (fun h23 => gj_pos h23 ?_)
    · exact gj_to [1, 0] (J34 x7 1) rfl
    · refine gj_iinc (L' := [(1, _), (0, _)]) C dJ18_numberOfTrailingZeros_26 0 rfl (by decide) rfl ?_
      refine gj_iload_n C dJ18_numberOfTrailingZeros_29 1 rfl ?_
      refine gj_bipush C dJ18_numberOfTrailingZeros_30 rfl ?_
      refine gj_iushr C dJ18_numberOfTrailingZeros_32 ?_
      refine gj_let (fun x33 => ?_)
      refine gj_istore_n (L' := [(0, _), (1, _)]) C dJ18_numberOfTrailingZeros_33 (by decide) rfl ?_
      exact gj_to [0, 1] (J34 x33 (1 + 16)) rfl
  · refine gj_iload_n C dJ18_numberOfTrailingZeros_12 0 rfl ?_
    refine gj_bipush C dJ18_numberOfTrailingZeros_13 rfl ?_
    refine gj_iand C dJ18_numberOfTrailingZeros_15 ?_
    exact gx_iret C hQ hr dJ18_numberOfTrailingZeros_16
def x1_who_j44 : PT Hp Int :=
  pret (-1)
def x1_who (a0 : Option Nat) (a1 : Int) : PT Hp Int :=
  pbnd (xrecv a0 1) fun _ =>
  pbnd (x1_isPerson a0 a1) fun v2 =>
  pite (w32 v2 = 0) (
    pret (-1)) (
    pbnd (xnew 23) fun v10 =>
    pbnd (xnn v10) fun _ =>
    pbnd (x27_init v10 a0) fun _ =>
    pbnd (xrecv a0 1) fun _ =>
    pbnd (x1_shows a0 v10) fun _ =>
    pbnd (xgI v10 23 3) fun v25 =>
    pite (w32 v25 = 0) (
      x1_who_j44) (
      pbnd (xgR v10 23 2) fun v32 =>
      pbnd (xld v32 40 a1) fun v36 =>
      pbnd (j18_bitCount v36) fun v37 =>
      pite (1 < w32 v37) (
        x1_who_j44) (
        pbnd (xgR v10 23 2) fun v49 =>
        pbnd (xld v49 40 a1) fun v53 =>
        pbnd (j18_numberOfTrailingZeros v53) fun v54 =>
        pret v54)))
set_option maxHeartbeats 4000000 in
set_option maxRecDepth 100000 in
theorem mx1_who (l : Launch) (g : XG) (a0 : Option Nat) (a1 : Int) : XMet l g yX1_who cX1_who 3 (Option.some Jvm.ClassFile.FieldType.int) (718) [rv g a0, .int (iI a1)] (x1_who a0 a1) rvI := by
  refine gx_start (by decide +kernel) (by have e := lg_sl_len [rv g a0, .int (iI a1)]; simp only [List.map_cons, List.map_nil, List.sum_cons, List.sum_nil, rv_cat, cat_int, cat_long] at e; omega) (fun X Q σ0 hl C E hQ hR hr hnm => ?_)
  subst hl
  rw [show lv_args 0 [rv g a0, .int (iI a1)] = [(0, rv g a0), (1, .int (iI a1))] from by simp [lv_args, rv_cat, cat_int, cat_long]]
  show GJ X 3 (xWo g σ0 (cx_s X).heap) Q (x1_who a0 a1) 0 [(0, rv g a0), (1, .int (iI a1))] []
  have J44 : GJ X 3 (xWo g σ0 (cx_s X).heap) Q (x1_who_j44) 44 [] [] := by
    unfold x1_who_j44
    refine gj_iconst C dX1_who_44 ?_
    refine gj_goto (tgt := 57) C dX1_who_45 (by decide) ?_
    exact gx_iret C hQ hr dX1_who_57
  unfold x1_who
  refine gx_aload_n C dX1_who_0 0 rfl ?_
  refine gj_iload_n C dX1_who_1 1 rfl ?_
  refine gx_callVI (t0 := 1) (As := [.int (iI a1)]) (rest := []) C E rfl dX1_who_2 (mx1_isPerson (cx_l X) g a0 a1) (lw_V q1188 q1190 qs28 q125 q1191) hyx_X1_isPerson rfl hR (Nat.le_of_ble_eq_true rfl) (by decide) rfl rfl (Nat.zero_le _) (fun v2 => ?_)
  refine gj_if_ne (tgt := 10) C dX1_who_5 (by decide) (fun h5 => gj_neg h5 ?_) (fun h5 => gj_pos h5 ?_)
  · refine gx_new (t0 := 23) C E dX1_who_10 rfl q1627 q1628 q170 (fun v10 => ?_)
    refine gx_dup C dX1_who_13 ?_
    refine gx_aload_n C dX1_who_14 0 rfl ?_
    refine gx_callINV (As := [rv g a0]) (rest := [rv g v10]) C E dX1_who_15 (mx27_init (cx_l X) g v10 a0) (lw_meth q1631) q170 q1629 q1630 rfl hyx_X27_init hR (Nat.le_of_ble_eq_true rfl) (by decide) rfl rfl (by simp only [List.map_cons, List.map_nil, List.sum_cons, List.sum_nil, rv_cat, cat_int, cat_long]; decide) ?_
    refine gx_astore_n (L' := [(2, _), (0, _), (1, _)]) C dX1_who_18 (by decide) rfl ?_
    refine gx_aload_n C dX1_who_19 1 rfl ?_
    refine gx_aload_n C dX1_who_20 0 rfl ?_
    refine gx_callVV (t0 := 1) (As := [rv g v10]) (rest := []) C E rfl dX1_who_21 (mx1_shows (cx_l X) g a0 v10) (lw_V q1288 q1290 qs32 q125 q1291) hyx_X1_shows rfl hR (Nat.le_of_ble_eq_true rfl) (by decide) rfl rfl (Nat.zero_le _) ?_
    refine gx_aload_n C dX1_who_24 0 rfl ?_
    refine gx_gI (O := "BorrowedLives$Fits") (nm := "many") (ds := "I") (fin := false) C E dX1_who_25 (by decide +kernel) (Or.inr ⟨_, q1636⟩) (fun _ h => h) (fun v25 => ?_)
    refine gj_if_eq (tgt := 44) C dX1_who_28 (by decide) (fun h28 => gj_pos h28 ?_) (fun h28 => gj_neg h28 ?_)
    · exact gj_to [] (J44) rfl
    · refine gx_aload_n C dX1_who_31 0 rfl ?_
      refine gx_gR (O := "BorrowedLives$Fits") (nm := "selves") (ds := "[I") (fin := true) C E dX1_who_32 (by decide +kernel) (Or.inr ⟨_, q1634⟩) (fun _ h => h) (fun v32 => ?_)
      refine gj_iload_n C dX1_who_35 2 rfl ?_
      refine gx_iald C E dX1_who_36 (fun v36 => ?_)
      refine gx_callSI (As := [.int (iI v36)]) (rest := []) C E dX1_who_37 (mj18_bitCount (cx_l X) g v36) (lw_S q1651 q1652 q171 q1653) hyx_J18_bitCount hR (Nat.le_of_ble_eq_true rfl) (by decide) rfl rfl (Nat.zero_le _) (fun v37 => ?_)
      refine gj_iconst C dX1_who_40 ?_
      refine gj_icmp_le (tgt := 48) (b' := 1) C dX1_who_41 (by decide) rfl (by decide) (fun h41 => gj_neg h41 ?_) (fun h41 => gj_pos h41 ?_)
      · refine gx_aload_n C dX1_who_48 0 rfl ?_
        refine gx_gR (O := "BorrowedLives$Fits") (nm := "selves") (ds := "[I") (fin := true) C E dX1_who_49 (by decide +kernel) (Or.inr ⟨_, q1634⟩) (fun _ h => h) (fun v49 => ?_)
        refine gj_iload_n C dX1_who_52 2 rfl ?_
        refine gx_iald C E dX1_who_53 (fun v53 => ?_)
        refine gx_callSI (As := [.int (iI v53)]) (rest := []) C E dX1_who_54 (mj18_numberOfTrailingZeros (cx_l X) g v53) (lw_S q1657 q1658 q171 q1659) hyx_J18_numberOfTrailingZeros hR (Nat.le_of_ble_eq_true rfl) (by decide) rfl rfl (Nat.zero_le _) (fun v54 => ?_)
        exact gx_iret C hQ hr dX1_who_57
      · exact gj_to [] (J44) rfl
  · refine gj_iconst C dX1_who_8 ?_
    exact gx_iret C hQ hr dX1_who_9
def x28_init (a0 a1 : Option Nat) (a2 a3 : Int) : PT Hp Unit :=
  pbnd (xpR a0 24 5 a1) fun _ =>
  pbnd (xnn a0) fun _ =>
  pbnd (x22_init a0 a1) fun _ =>
  pbnd (xpI a0 24 2 a2) fun _ =>
  pbnd (xpI a0 24 3 a3) fun _ =>
  pret ()
set_option maxHeartbeats 4000000 in
set_option maxRecDepth 100000 in
theorem mx28_init (l : Launch) (g : XG) (a0 a1 : Option Nat) (a2 a3 : Int) : XMet l g yX28_init cX28_init 4 (Option.none : Option Jvm.ClassFile.FieldType) (2) [rv g a0, rv g a1, .int (iI a2), .int (iI a3)] (x28_init a0 a1 a2 a3) rvV := by
  refine gx_start (by decide +kernel) (by have e := lg_sl_len [rv g a0, rv g a1, .int (iI a2), .int (iI a3)]; simp only [List.map_cons, List.map_nil, List.sum_cons, List.sum_nil, rv_cat, cat_int, cat_long] at e; omega) (fun X Q σ0 hl C E hQ hR hr hnm => ?_)
  subst hl
  rw [show lv_args 0 [rv g a0, rv g a1, .int (iI a2), .int (iI a3)] = [(0, rv g a0), (1, rv g a1), (2, .int (iI a2)), (3, .int (iI a3))] from by simp [lv_args, rv_cat, cat_int, cat_long]]
  show GJ X 4 (xWo g σ0 (cx_s X).heap) Q (x28_init a0 a1 a2 a3) 0 [(0, rv g a0), (1, rv g a1), (2, .int (iI a2)), (3, .int (iI a3))] []
  unfold x28_init
  refine gx_aload_n C dX28_init_0 0 rfl ?_
  refine gx_aload_n C dX28_init_1 1 rfl ?_
  refine gx_pR (O := "BorrowedLives$Alike") (nm := "this$0") (ds := "LBorrowedLives;") (fin := true) (ty := (.object "BorrowedLives")) C E dX28_init_2 (by decide +kernel) (Or.inl q1676) (fun _ h => h) (fun _ => ⟨hnm, rfl⟩) (by decide +kernel) (by decide) ?_
  refine gx_aload_n C dX28_init_5 0 rfl ?_
  refine gx_aload_n C dX28_init_6 1 rfl ?_
  refine gx_callINV (As := [rv g a1]) (rest := []) C E dX28_init_7 (mx22_init (cx_l X) g a0 a1) (lw_meth q1257) q164 q1671 q1256 rfl hyx_X22_init hR (Nat.le_of_ble_eq_true rfl) (by decide) rfl rfl (Nat.zero_le _) ?_
  refine gx_aload_n C dX28_init_10 0 rfl ?_
  refine gj_iload_n C dX28_init_11 2 rfl ?_
  refine gx_pI (O := "BorrowedLives$Alike") (nm := "life") (ds := "I") (fin := true) (ty := .int) C E dX28_init_12 (by decide +kernel) (Or.inl q1672) (fun _ h => h) (fun _ => ⟨hnm, rfl⟩) (by decide +kernel) (inty_int _) ?_
  refine gx_aload_n C dX28_init_15 0 rfl ?_
  refine gj_iload_n C dX28_init_16 3 rfl ?_
  refine gx_pI (O := "BorrowedLives$Alike") (nm := "day") (ds := "I") (fin := true) (ty := .int) C E dX28_init_17 (by decide +kernel) (Or.inl q1673) (fun _ h => h) (fun _ => ⟨hnm, rfl⟩) (by decide +kernel) (inty_int _) ?_
  exact gx_vret C hQ hr dX28_init_20
def x1_ask_j97 (a0 : Option Nat) (a1 a2 a3 a4 : Int) (bk9 : (Int × Int × Int) → PT Hp Int) (bk20 : (Int × Int × Int) → PT Hp Int) : PT Hp Int :=
  bk20 (a1, a2, a4 + 1)
def x1_ask_b30 (a0 : Option Nat) (a1 a2 a3 a4 : Int) (bk9 : (Int × Int × Int) → PT Hp Int) (bk20 : (Int × Int × Int) → PT Hp Int) (a5 : Int) (bk30 : (Int) → PT Hp Int) : PT Hp Int :=
  pite (9999 < w32 a5) (
    pbnd (xnew 24) fun v52 =>
    pbnd (xnn v52) fun _ =>
    pbnd (x28_init v52 a0 a3 a4) fun _ =>
    pbnd (xrecv a0 1) fun _ =>
    pbnd (x1_shows a0 v52) fun _ =>
    pbnd (xgI v52 24 4) fun v73 =>
    pite (w32 v73 < w32 a1) (
      pbnd (xgI v52 24 4) fun v85 =>
      plet (((a3 * 8)) + a4) fun x96 =>
      x1_ask_j97 a0 v85 x96 a3 a4 bk9 bk20) (
      x1_ask_j97 a0 a1 a2 a3 a4 bk9 bk20)) (
    pbnd (xgR a0 1 21) fun v39 =>
    pbnd (xst v39 40 a5 0) fun _ =>
    bk30 (a5 + 1))
def x1_ask_l30 (a0 : Option Nat) (a1 a2 a3 a4 a5 : Int) (bk9 : (Int × Int × Int) → PT Hp Int) (bk20 : (Int × Int × Int) → PT Hp Int) : PT Hp Int :=
  ploop (fun (s : (Int)) bk30 => x1_ask_b30 a0 a1 a2 a3 a4 bk9 bk20 s bk30) (a5)
def x1_ask_b20 (a0 : Option Nat) (a3 : Int) (bk9 : (Int × Int × Int) → PT Hp Int) (a1 a2 a4 : Int) (bk20 : (Int × Int × Int) → PT Hp Int) : PT Hp Int :=
  pite (7 < w32 a4) (
    bk9 (a1, a2, a3 + 1)) (
    x1_ask_l30 a0 a1 a2 a3 a4 0 bk9 bk20)
def x1_ask_l20 (a0 : Option Nat) (a1 a2 a3 a4 : Int) (bk9 : (Int × Int × Int) → PT Hp Int) : PT Hp Int :=
  ploop (fun (s : (Int × Int × Int)) bk20 => x1_ask_b20 a0 a3 bk9 s.1 s.2.1 s.2.2 bk20) (a1, a2, a4)
def x1_ask_b9 (a0 : Option Nat) (a1 a2 a3 : Int) (bk9 : (Int × Int × Int) → PT Hp Int) : PT Hp Int :=
  pbnd (xrecv a0 1) fun _ =>
  pbnd (x1_people a0) fun v11 =>
  pite (w32 a3 < w32 v11) (
    x1_ask_l20 a0 a1 a2 a3 1 bk9) (
    pret a2)
def x1_ask_l9 (a0 : Option Nat) (a1 a2 a3 : Int) : PT Hp Int :=
  ploop (fun (s : (Int × Int × Int)) bk9 => x1_ask_b9 a0 s.1 s.2.1 s.2.2 bk9) (a1, a2, a3)
def x1_ask (a0 : Option Nat) : PT Hp Int :=
  pbnd (xrecv a0 1) fun _ =>
  pbnd (x1_how a0) fun v1 =>
  x1_ask_l9 a0 v1 (-1) 0
set_option maxHeartbeats 4000000 in
set_option maxRecDepth 100000 in
theorem mx1_ask (l : Launch) (g : XG) (a0 : Option Nat) : XMet l g yX1_ask cX1_ask 6 (Option.some Jvm.ClassFile.FieldType.int) (719) [rv g a0] (x1_ask a0) rvI := by
  refine gx_start (by decide +kernel) (by have e := lg_sl_len [rv g a0]; simp only [List.map_cons, List.map_nil, List.sum_cons, List.sum_nil, rv_cat, cat_int, cat_long] at e; omega) (fun X Q σ0 hl C E hQ hR hr hnm => ?_)
  subst hl
  rw [show lv_args 0 [rv g a0] = [(0, rv g a0)] from by simp [lv_args, rv_cat, cat_int, cat_long]]
  show GJ X 6 (xWo g σ0 (cx_s X).heap) Q (x1_ask a0) 0 [(0, rv g a0)] []
  have J9 : ∀ (a0 : Option Nat) (a1 a2 a3 : Int), GJ X 6 (xWo g σ0 (cx_s X).heap) Q (x1_ask_l9 a0 a1 a2 a3) 9 [(0, rv g a0), (1, .int (iI a1)), (2, .int (iI a2)), (3, .int (iI a3))] [] := by
    intro a0 a1 a2 a3
    unfold x1_ask_l9
    refine gj_loop (fun (s : (Int × Int × Int)) => [(0, rv g a0), (1, .int (iI (s.1))), (2, .int (iI (s.2.1))), (3, .int (iI (s.2.2)))]) (a1, a2, a3) (fun bk9 hb9 s => ?_)
    obtain ⟨a1, a2, a3⟩ := s
    show GJ X 6 (xWo g σ0 (cx_s X).heap) Q (x1_ask_b9 a0 a1 a2 a3 bk9) 9 [(0, rv g a0), (1, .int (iI a1)), (2, .int (iI a2)), (3, .int (iI a3))] []
    have J20 : ∀ (a1 a2 a3 a4 : Int), GJ X 6 (xWo g σ0 (cx_s X).heap) Q (x1_ask_l20 a0 a1 a2 a3 a4 bk9) 20 [(0, rv g a0), (1, .int (iI a1)), (2, .int (iI a2)), (3, .int (iI a3)), (4, .int (iI a4))] [] := by
      intro a1 a2 a3 a4
      unfold x1_ask_l20
      refine gj_loop (fun (s : (Int × Int × Int)) => [(0, rv g a0), (1, .int (iI (s.1))), (2, .int (iI (s.2.1))), (3, .int (iI a3)), (4, .int (iI (s.2.2)))]) (a1, a2, a4) (fun bk20 hb20 s => ?_)
      obtain ⟨a1, a2, a4⟩ := s
      show GJ X 6 (xWo g σ0 (cx_s X).heap) Q (x1_ask_b20 a0 a3 bk9 a1 a2 a4 bk20) 20 [(0, rv g a0), (1, .int (iI a1)), (2, .int (iI a2)), (3, .int (iI a3)), (4, .int (iI a4))] []
      have J97 : ∀ (a1 a2 a4 : Int), GJ X 6 (xWo g σ0 (cx_s X).heap) Q (x1_ask_j97 a0 a1 a2 a3 a4 bk9 bk20) 97 [(0, rv g a0), (1, .int (iI a1)), (2, .int (iI a2)), (3, .int (iI a3)), (4, .int (iI a4))] [] := by
        intro a1 a2 a4
        unfold x1_ask_j97
        refine gj_iinc (L' := [(4, _), (0, _), (1, _), (2, _), (3, _)]) C dX1_ask_97 4 rfl (by decide) rfl ?_
        refine gj_goto (tgt := 20) C dX1_ask_100 (by decide) ?_
        exact gj_to [1, 2, 3, 4, 0] (hb20 (a1, a2, a4 + 1)) rfl
      have J30 : ∀ (a1 a2 a4 a5 : Int), GJ X 6 (xWo g σ0 (cx_s X).heap) Q (x1_ask_l30 a0 a1 a2 a3 a4 a5 bk9 bk20) 30 [(0, rv g a0), (1, .int (iI a1)), (2, .int (iI a2)), (3, .int (iI a3)), (4, .int (iI a4)), (5, .int (iI a5))] [] := by
        intro a1 a2 a4 a5
        unfold x1_ask_l30
        refine gj_loop (fun (s : (Int)) => [(0, rv g a0), (1, .int (iI a1)), (2, .int (iI a2)), (3, .int (iI a3)), (4, .int (iI a4)), (5, .int (iI s))]) (a5) (fun bk30 hb30 s => ?_)
        obtain ⟨a5, rfl⟩ : ∃ z, z = s := ⟨s, rfl⟩
        show GJ X 6 (xWo g σ0 (cx_s X).heap) Q (x1_ask_b30 a0 a1 a2 a3 a4 bk9 bk20 a5 bk30) 30 [(0, rv g a0), (1, .int (iI a1)), (2, .int (iI a2)), (3, .int (iI a3)), (4, .int (iI a4)), (5, .int (iI a5))] []
        unfold x1_ask_b30
        refine gj_iload C dX1_ask_30 5 rfl ?_
        refine gj_sipush C dX1_ask_32 rfl ?_
        refine gj_icmp_gt (tgt := 52) (b' := 9999) C dX1_ask_35 (by decide) rfl (by decide) (fun h35 => gj_pos h35 ?_) (fun h35 => gj_neg h35 ?_)
        · refine gx_new (t0 := 24) C E dX1_ask_52 rfl q1666 q1667 q172 (fun v52 => ?_)
          refine gx_dup C dX1_ask_55 ?_
          refine gx_aload_n C dX1_ask_56 0 rfl ?_
          refine gj_iload_n C dX1_ask_57 3 rfl ?_
          refine gj_iload C dX1_ask_58 4 rfl ?_
          refine gx_callIV (As := [rv g a0, .int (iI a3), .int (iI a4)]) (rest := [rv g v52]) C E dX1_ask_60 (mx28_init (cx_l X) g v52 a0 a3 a4) (lw_meth q1670) q172 q1668 q1669 rfl hyx_X28_init hR (Nat.le_of_ble_eq_true rfl) (by decide) rfl rfl (by simp only [List.map_cons, List.map_nil, List.sum_cons, List.sum_nil, rv_cat, cat_int, cat_long]; decide) ?_
          refine gx_astore (L' := [(5, _), (0, _), (1, _), (2, _), (3, _), (4, _)]) C dX1_ask_63 (by decide) rfl ?_
          refine gx_aload_n C dX1_ask_65 1 rfl ?_
          refine gx_aload C dX1_ask_66 0 rfl ?_
          refine gx_callVV (t0 := 1) (As := [rv g v52]) (rest := []) C E rfl dX1_ask_68 (mx1_shows (cx_l X) g a0 v52) (lw_V q1288 q1290 qs32 q125 q1291) hyx_X1_shows rfl hR (Nat.le_of_ble_eq_true rfl) (by decide) rfl rfl (Nat.zero_le _) ?_
          refine gx_aload C dX1_ask_71 0 rfl ?_
          refine gx_gI (O := "BorrowedLives$Alike") (nm := "most") (ds := "I") (fin := false) C E dX1_ask_73 (by decide +kernel) (Or.inr ⟨_, q1675⟩) (fun _ h => h) (fun v73 => ?_)
          refine gj_iload_n C dX1_ask_76 2 rfl ?_
          refine gj_icmp_lt (tgt := 83) C dX1_ask_77 (by decide) rfl rfl (fun h77 => gj_pos h77 ?_) (fun h77 => gj_neg h77 ?_)
          · refine gx_aload C dX1_ask_83 0 rfl ?_
            refine gx_gI (O := "BorrowedLives$Alike") (nm := "most") (ds := "I") (fin := false) C E dX1_ask_85 (by decide +kernel) (Or.inr ⟨_, q1675⟩) (fun _ h => h) (fun v85 => ?_)
            refine gj_istore_n (L' := [(1, .int (iI v85)), (5, rv g v52), (0, rv g a0), (2, .int (iI a2)), (3, .int (iI a3)), (4, .int (iI a4))]) C dX1_ask_88 (by decide) (by simp [List.filter, rv_cat, cat_int, cat_long, fin4_3]) ?_
            refine gj_iload_n C dX1_ask_89 4 rfl ?_
            refine gj_bipush C dX1_ask_90 rfl ?_
            refine gj_imul C dX1_ask_92 ?_
            refine gj_iload C dX1_ask_93 5 rfl ?_
            refine gj_iadd C dX1_ask_95 ?_
            refine gj_let (fun x96 => ?_)
            refine gj_istore_n (L' := [(2, _), (1, _), (5, _), (0, _), (3, _), (4, _)]) C dX1_ask_96 (by decide) rfl ?_
            exact gj_to [3, 1, 0, 4, 5] (J97 v85 x96 a4) rfl
          · refine gj_goto (tgt := 97) C dX1_ask_80 (by decide) ?_
            exact gj_to [1, 2, 3, 4, 5] (J97 a1 a2 a4) rfl
        · refine gx_aload_n C dX1_ask_38 0 rfl ?_
          refine gx_gR (O := "BorrowedLives") (nm := "like") (ds := "[I") (fin := true) C E dX1_ask_39 (by decide +kernel) (Or.inl q404) (fun _ h => h) (fun v39 => ?_)
          refine gj_iload C dX1_ask_42 5 rfl ?_
          refine gj_iconst C dX1_ask_44 ?_
          refine gx_iast C E dX1_ask_45 ?_
          refine gj_iinc (L' := [(5, _), (0, _), (1, _), (2, _), (3, _), (4, _)]) C dX1_ask_46 5 rfl (by decide) rfl ?_
          refine gj_goto (tgt := 30) C dX1_ask_49 (by decide) ?_
          exact gj_to [1, 2, 3, 4, 5, 0] (hb30 (a5 + 1)) rfl
      unfold x1_ask_b20
      refine gj_iload C dX1_ask_20 4 rfl ?_
      refine gj_bipush C dX1_ask_22 rfl ?_
      refine gj_icmp_gt (tgt := 103) (b' := 7) C dX1_ask_24 (by decide) rfl (by decide) (fun h24 => gj_pos h24 ?_) (fun h24 => gj_neg h24 ?_)
      · refine gj_iinc (L' := [(3, _), (0, _), (1, _), (2, _), (4, _)]) C dX1_ask_103 3 rfl (by decide) rfl ?_
        refine gj_goto (tgt := 9) C dX1_ask_106 (by decide) ?_
        exact gj_to [1, 2, 3, 0] (hb9 (a1, a2, a3 + 1)) rfl
      · refine gj_iconst C dX1_ask_27 ?_
        refine gj_istore (L' := [(5, _), (0, _), (1, _), (2, _), (3, _), (4, _)]) C dX1_ask_28 (by decide) rfl ?_
        exact gj_to [1, 2, 3, 4, 5, 0] (J30 a1 a2 a4 0) rfl
    unfold x1_ask_b9
    refine gj_iload_n C dX1_ask_9 3 rfl ?_
    refine gx_aload_n C dX1_ask_10 0 rfl ?_
    refine gx_callVI (t0 := 1) (As := []) (rest := [.int (iI a3)]) C E rfl dX1_ask_11 (mx1_people (cx_l X) g a0) (lw_V q1192 q1194 qs29 q125 q1195) hyx_X1_people rfl hR (Nat.le_of_ble_eq_true rfl) (by decide) rfl rfl (Nat.le_of_ble_eq_true rfl) (fun v11 => ?_)
    refine gj_icmp_ge (tgt := 109) C dX1_ask_14 (by decide) rfl rfl (fun h14 => gj_neg h14 ?_) (fun h14 => gj_pos h14 ?_)
    · refine gj_iload_n C dX1_ask_109 2 rfl ?_
      exact gx_iret C hQ hr dX1_ask_110
    · refine gj_iconst C dX1_ask_17 ?_
      refine gj_istore (L' := [(4, _), (0, _), (1, _), (2, _), (3, _)]) C dX1_ask_18 (by decide) rfl ?_
      exact gj_to [1, 2, 3, 4, 0] (J20 a1 a2 a3 1) rfl
  unfold x1_ask
  refine gx_aload_n C dX1_ask_0 0 rfl ?_
  refine gx_callVI (t0 := 1) (As := []) (rest := []) C E rfl dX1_ask_1 (mx1_how (cx_l X) g a0) (lw_V q1665 q1624 q1625 q125 q1626) hyx_X1_how rfl hR (Nat.le_of_ble_eq_true rfl) (by decide) rfl rfl (Nat.zero_le _) (fun v1 => ?_)
  refine gj_istore_n (L' := [(1, .int (iI v1)), (0, rv g a0)]) C dX1_ask_4 (by decide) (by simp [List.filter, rv_cat, cat_int, cat_long, fin4_3]) ?_
  refine gj_iconst C dX1_ask_5 ?_
  refine gj_istore_n (L' := [(2, _), (1, _), (0, _)]) C dX1_ask_6 (by decide) rfl ?_
  refine gj_iconst C dX1_ask_7 ?_
  refine gj_istore_n (L' := [(3, _), (2, _), (1, _), (0, _)]) C dX1_ask_8 (by decide) rfl ?_
  exact gj_to [3, 2, 1, 0] (J9 a0 v1 (-1) 0) rfl
def x4_goodOfAll_b4 (a0 : Option Nat) (a1 a2 : Int) (bk4 : (Int × Int) → PT Hp Int) : PT Hp Int :=
  pite (w32 a2 < 6) (
    pbnd (xrecv a0 4) fun _ =>
    pbnd (x4_goodOf a0 a2) fun v13 =>
    plet (a1 + v13) fun x17 =>
    bk4 (x17, a2 + 1)) (
    pret a1)
def x4_goodOfAll_l4 (a0 : Option Nat) (a1 a2 : Int) : PT Hp Int :=
  ploop (fun (s : (Int × Int)) bk4 => x4_goodOfAll_b4 a0 s.1 s.2 bk4) (a1, a2)
def x4_goodOfAll (a0 : Option Nat) : PT Hp Int :=
  x4_goodOfAll_l4 a0 0 0
set_option maxHeartbeats 4000000 in
set_option maxRecDepth 100000 in
theorem mx4_goodOfAll (l : Launch) (g : XG) (a0 : Option Nat) : XMet l g yX4_goodOfAll cX4_goodOfAll 3 (Option.some Jvm.ClassFile.FieldType.int) (2) [rv g a0] (x4_goodOfAll a0) rvI := by
  refine gx_start (by decide +kernel) (by have e := lg_sl_len [rv g a0]; simp only [List.map_cons, List.map_nil, List.sum_cons, List.sum_nil, rv_cat, cat_int, cat_long] at e; omega) (fun X Q σ0 hl C E hQ hR hr hnm => ?_)
  subst hl
  rw [show lv_args 0 [rv g a0] = [(0, rv g a0)] from by simp [lv_args, rv_cat, cat_int, cat_long]]
  show GJ X 3 (xWo g σ0 (cx_s X).heap) Q (x4_goodOfAll a0) 0 [(0, rv g a0)] []
  have J4 : ∀ (a0 : Option Nat) (a1 a2 : Int), GJ X 3 (xWo g σ0 (cx_s X).heap) Q (x4_goodOfAll_l4 a0 a1 a2) 4 [(0, rv g a0), (1, .int (iI a1)), (2, .int (iI a2))] [] := by
    intro a0 a1 a2
    unfold x4_goodOfAll_l4
    refine gj_loop (fun (s : (Int × Int)) => [(0, rv g a0), (1, .int (iI (s.1))), (2, .int (iI (s.2)))]) (a1, a2) (fun bk4 hb4 s => ?_)
    obtain ⟨a1, a2⟩ := s
    show GJ X 3 (xWo g σ0 (cx_s X).heap) Q (x4_goodOfAll_b4 a0 a1 a2 bk4) 4 [(0, rv g a0), (1, .int (iI a1)), (2, .int (iI a2))] []
    unfold x4_goodOfAll_b4
    refine gj_iload_n C dX4_goodOfAll_4 2 rfl ?_
    refine gj_bipush C dX4_goodOfAll_5 rfl ?_
    refine gj_icmp_ge (tgt := 24) (b' := 6) C dX4_goodOfAll_7 (by decide) rfl (by decide) (fun h7 => gj_neg h7 ?_) (fun h7 => gj_pos h7 ?_)
    · refine gj_iload_n C dX4_goodOfAll_24 1 rfl ?_
      exact gx_iret C hQ hr dX4_goodOfAll_25
    · refine gj_iload_n C dX4_goodOfAll_10 1 rfl ?_
      refine gx_aload_n C dX4_goodOfAll_11 0 rfl ?_
      refine gj_iload_n C dX4_goodOfAll_12 2 rfl ?_
      refine gx_callVI (t0 := 4) (As := [.int (iI a2)]) (rest := [.int (iI a1)]) C E rfl dX4_goodOfAll_13 (mx4_goodOf (cx_l X) g a0 a2) (lw_V q1696 q1234 q1235 q131 q1236) hyx_X4_goodOf rfl hR (Nat.le_of_ble_eq_true rfl) (by decide) rfl rfl (Nat.le_of_ble_eq_true rfl) (fun v13 => ?_)
      refine gj_iadd C dX4_goodOfAll_16 ?_
      refine gj_let (fun x17 => ?_)
      refine gj_istore_n (L' := [(1, .int (iI x17)), (0, rv g a0), (2, .int (iI a2))]) C dX4_goodOfAll_17 (by decide) (by simp [List.filter, rv_cat, cat_int, cat_long, fin4_3]) ?_
      refine gj_iinc (L' := [(2, _), (1, _), (0, _)]) C dX4_goodOfAll_18 2 rfl (by decide) rfl ?_
      refine gj_goto (tgt := 4) C dX4_goodOfAll_21 (by decide) ?_
      exact gj_to [2, 1, 0] (hb4 (x17, a2 + 1)) rfl
  unfold x4_goodOfAll
  refine gj_iconst C dX4_goodOfAll_0 ?_
  refine gj_istore_n (L' := [(1, .int (iI 0)), (0, rv g a0)]) C dX4_goodOfAll_1 (by decide) (by simp [List.filter, rv_cat, cat_int, cat_long, fin4_3]) ?_
  refine gj_iconst C dX4_goodOfAll_2 ?_
  refine gj_istore_n (L' := [(2, _), (1, _), (0, _)]) C dX4_goodOfAll_3 (by decide) rfl ?_
  exact gj_to [2, 1, 0] (J4 a0 0 0) rfl
def x1_sum_b4 (a0 : Option Nat) (a1 a2 : Int) (bk4 : (Int × Int) → PT Hp Int) : PT Hp Int :=
  pbnd (xlen a0) fun v6 =>
  pite (w32 a2 < w32 v6) (
    pbnd (xld a0 40 a2) fun v13 =>
    plet (a1 + v13) fun x15 =>
    bk4 (x15, a2 + 1)) (
    pret a1)
def x1_sum_l4 (a0 : Option Nat) (a1 a2 : Int) : PT Hp Int :=
  ploop (fun (s : (Int × Int)) bk4 => x1_sum_b4 a0 s.1 s.2 bk4) (a1, a2)
def x1_sum (a0 : Option Nat) : PT Hp Int :=
  x1_sum_l4 a0 0 0
set_option maxHeartbeats 4000000 in
set_option maxRecDepth 100000 in
theorem mx1_sum (l : Launch) (g : XG) (a0 : Option Nat) : XMet l g yX1_sum cX1_sum 3 (Option.some Jvm.ClassFile.FieldType.int) (0) [rv g a0] (x1_sum a0) rvI := by
  refine gx_start (by decide +kernel) (by have e := lg_sl_len [rv g a0]; simp only [List.map_cons, List.map_nil, List.sum_cons, List.sum_nil, rv_cat, cat_int, cat_long] at e; omega) (fun X Q σ0 hl C E hQ hR hr hnm => ?_)
  subst hl
  rw [show lv_args 0 [rv g a0] = [(0, rv g a0)] from by simp [lv_args, rv_cat, cat_int, cat_long]]
  show GJ X 3 (xWo g σ0 (cx_s X).heap) Q (x1_sum a0) 0 [(0, rv g a0)] []
  have J4 : ∀ (a0 : Option Nat) (a1 a2 : Int), GJ X 3 (xWo g σ0 (cx_s X).heap) Q (x1_sum_l4 a0 a1 a2) 4 [(0, rv g a0), (1, .int (iI a1)), (2, .int (iI a2))] [] := by
    intro a0 a1 a2
    unfold x1_sum_l4
    refine gj_loop (fun (s : (Int × Int)) => [(0, rv g a0), (1, .int (iI (s.1))), (2, .int (iI (s.2)))]) (a1, a2) (fun bk4 hb4 s => ?_)
    obtain ⟨a1, a2⟩ := s
    show GJ X 3 (xWo g σ0 (cx_s X).heap) Q (x1_sum_b4 a0 a1 a2 bk4) 4 [(0, rv g a0), (1, .int (iI a1)), (2, .int (iI a2))] []
    unfold x1_sum_b4
    refine gj_iload_n C dX1_sum_4 2 rfl ?_
    refine gx_aload_n C dX1_sum_5 0 rfl ?_
    refine gx_len C E dX1_sum_6 (fun v6 => ?_)
    refine gj_icmp_ge (tgt := 22) C dX1_sum_7 (by decide) rfl rfl (fun h7 => gj_neg h7 ?_) (fun h7 => gj_pos h7 ?_)
    · refine gj_iload_n C dX1_sum_22 1 rfl ?_
      exact gx_iret C hQ hr dX1_sum_23
    · refine gj_iload_n C dX1_sum_10 1 rfl ?_
      refine gx_aload_n C dX1_sum_11 0 rfl ?_
      refine gj_iload_n C dX1_sum_12 2 rfl ?_
      refine gx_iald C E dX1_sum_13 (fun v13 => ?_)
      refine gj_iadd C dX1_sum_14 ?_
      refine gj_let (fun x15 => ?_)
      refine gj_istore_n (L' := [(1, .int (iI x15)), (0, rv g a0), (2, .int (iI a2))]) C dX1_sum_15 (by decide) (by simp [List.filter, rv_cat, cat_int, cat_long, fin4_3]) ?_
      refine gj_iinc (L' := [(2, _), (1, _), (0, _)]) C dX1_sum_16 2 rfl (by decide) rfl ?_
      refine gj_goto (tgt := 4) C dX1_sum_19 (by decide) ?_
      exact gj_to [2, 1, 0] (hb4 (x15, a2 + 1)) rfl
  unfold x1_sum
  refine gj_iconst C dX1_sum_0 ?_
  refine gj_istore_n (L' := [(1, .int (iI 0)), (0, rv g a0)]) C dX1_sum_1 (by decide) (by simp [List.filter, rv_cat, cat_int, cat_long, fin4_3]) ?_
  refine gj_iconst C dX1_sum_2 ?_
  refine gj_istore_n (L' := [(2, _), (1, _), (0, _)]) C dX1_sum_3 (by decide) rfl ?_
  exact gj_to [2, 1, 0] (J4 a0 0 0) rfl
