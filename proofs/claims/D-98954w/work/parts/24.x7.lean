/-! THE COMPONENT: its methods as pure programs, and that the machine runs so (X1.wouldSwap, X1.pairs_2, X1.pairs, X1.tale, X27.init, X1.how, J18.bitCount, J18.numberOfTrailingZeros, X1.who, X28.init, X1.ask, X4.goodOfAll, X1.sum, X1.years, X29.init, X1.mark): printed by genx.py -/
def x1_wouldSwap (a0 : Option Nat) (a1 a2 : Int) : PT Hp Int :=
  pbnd (xrecv a0 1) fun _ =>
  pbnd (x1_wishOf a0 a1 a2) fun v3 =>
  pbnd (xrecv a0 1) fun _ =>
  pbnd (x1_wishOf a0 a1 a1) fun v9 =>
  pite (w32 v9 < w32 v3) (
    pbnd (xrecv a0 1) fun _ =>
    pbnd (x1_wishOf a0 a2 a1) fun v18 =>
    pbnd (xrecv a0 1) fun _ =>
    pbnd (x1_wishOf a0 a2 a2) fun v24 =>
    pite (w32 v24 < w32 v18) (
      pbnd (pzo 1) fun _ => pret 1) (
      pbnd (pzo 0) fun _ => pret 0)) (
    pbnd (pzo 0) fun _ => pret 0)
set_option maxHeartbeats 4000000 in
set_option maxRecDepth 100000 in
theorem mx1_wouldSwap (l : Launch) (g : XG) (a0 : Option Nat) (a1 a2 : Int) : XMet l g yX1_wouldSwap cX1_wouldSwap 3 (Option.some Jvm.ClassFile.FieldType.boolean) (703) [rv g a0, .int (iI a1), .int (iI a2)] (x1_wouldSwap a0 a1 a2) rvI := by
  refine gx_start (by decide +kernel) (by have e := lg_sl_len [rv g a0, .int (iI a1), .int (iI a2)]; simp only [List.map_cons, List.map_nil, List.sum_cons, List.sum_nil, rv_cat, cat_int, cat_long] at e; omega) (fun X Q σ0 hl C E hQ hR hr hnm => ?_)
  subst hl
  rw [show lv_args 0 [rv g a0, .int (iI a1), .int (iI a2)] = [(0, rv g a0), (1, .int (iI a1)), (2, .int (iI a2))] from by simp [lv_args, rv_cat, cat_int, cat_long]]
  show GJ X 3 (xWo g σ0 (cx_s X).heap) Q (x1_wouldSwap a0 a1 a2) 0 [(0, rv g a0), (1, .int (iI a1)), (2, .int (iI a2))] []
  unfold x1_wouldSwap
  refine gx_aload_n C dX1_wouldSwap_0 0 rfl ?_
  refine gj_iload_n C dX1_wouldSwap_1 1 rfl ?_
  refine gj_iload_n C dX1_wouldSwap_2 2 rfl ?_
  refine gx_callVI (t0 := 1) (As := [.int (iI a1), .int (iI a2)]) (rest := []) C E rfl dX1_wouldSwap_3 (mx1_wishOf (cx_l X) g a0 a1 a2) (lw_V q1615 q1617 qs48 q125 q1618) hyx_X1_wishOf rfl hR (Nat.le_of_ble_eq_true rfl) (by decide) rfl rfl (Nat.zero_le _) (fun v3 => ?_)
  refine gx_aload_n C dX1_wouldSwap_6 0 rfl ?_
  refine gj_iload_n C dX1_wouldSwap_7 1 rfl ?_
  refine gj_iload_n C dX1_wouldSwap_8 1 rfl ?_
  refine gx_callVI (t0 := 1) (As := [.int (iI a1), .int (iI a1)]) (rest := [.int (iI v3)]) C E rfl dX1_wouldSwap_9 (mx1_wishOf (cx_l X) g a0 a1 a1) (lw_V q1615 q1617 qs48 q125 q1618) hyx_X1_wishOf rfl hR (Nat.le_of_ble_eq_true rfl) (by decide) rfl rfl (Nat.le_of_ble_eq_true rfl) (fun v9 => ?_)
  refine gj_icmp_le (tgt := 34) C dX1_wouldSwap_12 (by decide) rfl rfl (fun h12 => gj_neg h12 ?_) (fun h12 => gj_pos h12 ?_)
  · refine gj_iconst C dX1_wouldSwap_34 ?_
    exact gx_zret C hQ hr dX1_wouldSwap_35
  · refine gx_aload_n C dX1_wouldSwap_15 0 rfl ?_
    refine gj_iload_n C dX1_wouldSwap_16 2 rfl ?_
    refine gj_iload_n C dX1_wouldSwap_17 1 rfl ?_
    refine gx_callVI (t0 := 1) (As := [.int (iI a2), .int (iI a1)]) (rest := []) C E rfl dX1_wouldSwap_18 (mx1_wishOf (cx_l X) g a0 a2 a1) (lw_V q1615 q1617 qs48 q125 q1618) hyx_X1_wishOf rfl hR (Nat.le_of_ble_eq_true rfl) (by decide) rfl rfl (Nat.zero_le _) (fun v18 => ?_)
    refine gx_aload_n C dX1_wouldSwap_21 0 rfl ?_
    refine gj_iload_n C dX1_wouldSwap_22 2 rfl ?_
    refine gj_iload_n C dX1_wouldSwap_23 2 rfl ?_
    refine gx_callVI (t0 := 1) (As := [.int (iI a2), .int (iI a2)]) (rest := [.int (iI v18)]) C E rfl dX1_wouldSwap_24 (mx1_wishOf (cx_l X) g a0 a2 a2) (lw_V q1615 q1617 qs48 q125 q1618) hyx_X1_wishOf rfl hR (Nat.le_of_ble_eq_true rfl) (by decide) rfl rfl (Nat.le_of_ble_eq_true rfl) (fun v24 => ?_)
    refine gj_icmp_le (tgt := 34) C dX1_wouldSwap_27 (by decide) rfl rfl (fun h27 => gj_neg h27 ?_) (fun h27 => gj_pos h27 ?_)
    · refine gj_iconst C dX1_wouldSwap_34 ?_
      exact gx_zret C hQ hr dX1_wouldSwap_35
    · refine gj_iconst C dX1_wouldSwap_30 ?_
      refine gj_goto (tgt := 35) C dX1_wouldSwap_31 (by decide) ?_
      exact gx_zret C hQ hr dX1_wouldSwap_35
def x1_pairs_2_s_j123 (self : Option Nat → Int → Int → PT Hp Unit) (a0 : Option Nat) (a1 a2 a3 : Int) (bk56 : (Int) → PT Hp Unit) : PT Hp Unit :=
  bk56 (a3 + 1)
def x1_pairs_2_s_b56 (self : Option Nat → Int → Int → PT Hp Unit) (a0 : Option Nat) (a1 a2 : Int) (a3 : Int) (bk56 : (Int) → PT Hp Unit) : PT Hp Unit :=
  pbnd (xrecv a0 1) fun _ =>
  pbnd (x1_people a0) fun v58 =>
  pite (w32 a3 < w32 v58) (
    pbnd (xgR a0 1 13) fun v65 =>
    pbnd (xld v65 40 a3) fun v69 =>
    pite (w32 v69 < 0) (
      pbnd (xrecv a0 1) fun _ =>
      pbnd (x1_wouldSwap a0 a1 a3) fun v76 =>
      pite (w32 v76 = 0) (
        x1_pairs_2_s_j123 self a0 a1 a2 a3 bk56) (
        pbnd (xgR a0 1 13) fun v86 =>
        pbnd (xst v86 40 a1 (w32 a3)) fun _ =>
        pbnd (xgR a0 1 13) fun v93 =>
        pbnd (xst v93 40 a3 (w32 a1)) fun _ =>
        pbnd (xrecv a0 1) fun _ =>
        pbnd (self a0 (a1 + 1) (a2 + 1)) fun _ =>
        pbnd (xgR a0 1 13) fun v110 =>
        pbnd (xst v110 40 a1 (-1)) fun _ =>
        pbnd (xgR a0 1 13) fun v117 =>
        pbnd (xst v117 40 a3 (-1)) fun _ =>
        x1_pairs_2_s_j123 self a0 a1 a2 a3 bk56)) (
      x1_pairs_2_s_j123 self a0 a1 a2 a3 bk56)) (
    pbnd (xrecv a0 1) fun _ =>
    pbnd (self a0 (a1 + 1) a2) fun _ =>
    pret ())
def x1_pairs_2_s_l56 (self : Option Nat → Int → Int → PT Hp Unit) (a0 : Option Nat) (a1 a2 a3 : Int) : PT Hp Unit :=
  ploop (fun (s : (Int)) bk56 => x1_pairs_2_s_b56 self a0 a1 a2 s bk56) (a3)
def x1_pairs_2_s (self : Option Nat → Int → Int → PT Hp Unit) (a0 : Option Nat) (a1 a2 : Int) : PT Hp Unit :=
  pbnd (xrecv a0 1) fun _ =>
  pbnd (x1_people a0) fun v2 =>
  pite (w32 a1 = w32 v2) (
    pbnd (xgI a0 1 15) fun v10 =>
    pite (w32 v10 < w32 a2) (
      pbnd (xpI a0 1 15 (w32 a2)) fun _ =>
      pbnd (xgR a0 1 13) fun v23 =>
      pbnd (xgR a0 1 14) fun v27 =>
      pbnd (x1_copies v23 v27) fun _ =>
      pret ()) (
      pret ())) (
    pbnd (xgR a0 1 13) fun v35 =>
    pbnd (xld v35 40 a1) fun v39 =>
    pite (w32 v39 < 0) (
      plet (a1 + 1) fun x55 =>
      x1_pairs_2_s_l56 self a0 a1 a2 x55) (
      pbnd (xrecv a0 1) fun _ =>
      pbnd (self a0 (a1 + 1) a2) fun _ =>
      pret ()))
set_option maxHeartbeats 4000000 in
set_option maxRecDepth 100000 in
theorem mx1_pairs_2_s (l : Launch) (g : XG) {kS : Nat} (hkS : 704 ≤ kS) {self : Option Nat → Int → Int → PT Hp Unit} (hS : ∀ (a0 : Option Nat) (a1 a2 : Int), XMet l g yX1_pairs_2 cX1_pairs_2 4 (Option.none : Option Jvm.ClassFile.FieldType) (kS) [rv g a0, .int (iI a1), .int (iI a2)] (self a0 a1 a2) rvV) (a0 : Option Nat) (a1 a2 : Int) : XMet l g yX1_pairs_2 cX1_pairs_2 4 (Option.none : Option Jvm.ClassFile.FieldType) (kS + 1) [rv g a0, .int (iI a1), .int (iI a2)] (x1_pairs_2_s self a0 a1 a2) rvV := by
  refine gx_start (by decide +kernel) (by have e := lg_sl_len [rv g a0, .int (iI a1), .int (iI a2)]; simp only [List.map_cons, List.map_nil, List.sum_cons, List.sum_nil, rv_cat, cat_int, cat_long] at e; omega) (fun X Q σ0 hl C E hQ hR hr hnm => ?_)
  subst hl
  rw [show lv_args 0 [rv g a0, .int (iI a1), .int (iI a2)] = [(0, rv g a0), (1, .int (iI a1)), (2, .int (iI a2))] from by simp [lv_args, rv_cat, cat_int, cat_long]]
  show GJ X 4 (xWo g σ0 (cx_s X).heap) Q (x1_pairs_2_s self a0 a1 a2) 0 [(0, rv g a0), (1, .int (iI a1)), (2, .int (iI a2))] []
  have J56 : ∀ (a0 : Option Nat) (a1 a2 a3 : Int), GJ X 4 (xWo g σ0 (cx_s X).heap) Q (x1_pairs_2_s_l56 self a0 a1 a2 a3) 56 [(0, rv g a0), (1, .int (iI a1)), (2, .int (iI a2)), (3, .int (iI a3))] [] := by
    intro a0 a1 a2 a3
    unfold x1_pairs_2_s_l56
    refine gj_loop (fun (s : (Int)) => [(0, rv g a0), (1, .int (iI a1)), (2, .int (iI a2)), (3, .int (iI s))]) (a3) (fun bk56 hb56 s => ?_)
    obtain ⟨a3, rfl⟩ : ∃ z, z = s := ⟨s, rfl⟩
    show GJ X 4 (xWo g σ0 (cx_s X).heap) Q (x1_pairs_2_s_b56 self a0 a1 a2 a3 bk56) 56 [(0, rv g a0), (1, .int (iI a1)), (2, .int (iI a2)), (3, .int (iI a3))] []
    have J123 : ∀ (a3 : Int), GJ X 4 (xWo g σ0 (cx_s X).heap) Q (x1_pairs_2_s_j123 self a0 a1 a2 a3 bk56) 123 [(0, rv g a0), (1, .int (iI a1)), (2, .int (iI a2)), (3, .int (iI a3))] [] := by
      intro a3
      unfold x1_pairs_2_s_j123
      refine gj_iinc (L' := [(3, _), (0, _), (1, _), (2, _)]) C dX1_pairs_2_123 3 rfl (by decide) rfl ?_
      refine gj_goto (tgt := 56) C dX1_pairs_2_126 (by decide) ?_
      exact gj_to [1, 2, 3, 0] (hb56 (a3 + 1)) rfl
    unfold x1_pairs_2_s_b56
    refine gj_iload_n C dX1_pairs_2_56 3 rfl ?_
    refine gx_aload_n C dX1_pairs_2_57 0 rfl ?_
    refine gx_callVI (t0 := 1) (As := []) (rest := [.int (iI a3)]) C E rfl dX1_pairs_2_58 (mx1_people (cx_l X) g a0) (lw_V q1192 q1194 qs29 q125 q1195) hyx_X1_people rfl hR (by omega) (by decide) rfl rfl (Nat.le_of_ble_eq_true rfl) (fun v58 => ?_)
    refine gj_icmp_ge (tgt := 129) C dX1_pairs_2_61 (by decide) rfl rfl (fun h61 => gj_neg h61 ?_) (fun h61 => gj_pos h61 ?_)
    · refine gx_aload_n C dX1_pairs_2_129 0 rfl ?_
      refine gj_iload_n C dX1_pairs_2_130 1 rfl ?_
      refine gj_iconst C dX1_pairs_2_131 ?_
      refine gj_iadd C dX1_pairs_2_132 ?_
      refine gj_iload_n C dX1_pairs_2_133 2 rfl ?_
      refine gx_callVV (t0 := 1) (As := [.int (iI ((a1 + 1))), .int (iI a2)]) (rest := []) C E rfl dX1_pairs_2_134 (hS a0 (a1 + 1) a2) (lw_V q1607 q1609 qs46 q125 q1610) hyx_X1_pairs_2 rfl hR (by omega) (by decide) rfl rfl (Nat.zero_le _) ?_
      exact gx_vret C hQ hr dX1_pairs_2_137
    · refine gx_aload_n C dX1_pairs_2_64 0 rfl ?_
      refine gx_gR (O := "BorrowedLives") (nm := "pairOf") (ds := "[I") (fin := true) C E dX1_pairs_2_65 (by decide +kernel) (Or.inl q394) (fun _ h => h) (fun v65 => ?_)
      refine gj_iload_n C dX1_pairs_2_68 3 rfl ?_
      refine gx_iald C E dX1_pairs_2_69 (fun v69 => ?_)
      refine gj_if_ge (tgt := 123) C dX1_pairs_2_70 (by decide) (fun h70 => gj_neg h70 ?_) (fun h70 => gj_pos h70 ?_)
      · exact gj_to [0, 1, 2, 3] (J123 a3) rfl
      · refine gx_aload_n C dX1_pairs_2_73 0 rfl ?_
        refine gj_iload_n C dX1_pairs_2_74 1 rfl ?_
        refine gj_iload_n C dX1_pairs_2_75 3 rfl ?_
        refine gx_callVI (t0 := 1) (As := [.int (iI a1), .int (iI a3)]) (rest := []) C E rfl dX1_pairs_2_76 (mx1_wouldSwap (cx_l X) g a0 a1 a3) (lw_V q1611 q1613 qs47 q125 q1614) hyx_X1_wouldSwap rfl hR (by omega) (by decide) rfl rfl (Nat.zero_le _) (fun v76 => ?_)
        refine gj_if_ne (tgt := 85) C dX1_pairs_2_79 (by decide) (fun h79 => gj_neg h79 ?_) (fun h79 => gj_pos h79 ?_)
        · refine gx_aload_n C dX1_pairs_2_85 0 rfl ?_
          refine gx_gR (O := "BorrowedLives") (nm := "pairOf") (ds := "[I") (fin := true) C E dX1_pairs_2_86 (by decide +kernel) (Or.inl q394) (fun _ h => h) (fun v86 => ?_)
          refine gj_iload_n C dX1_pairs_2_89 1 rfl ?_
          refine gj_iload_n C dX1_pairs_2_90 3 rfl ?_
          refine gj_nrmI ?_
          refine gx_iast C E dX1_pairs_2_91 ?_
          refine gx_aload_n C dX1_pairs_2_92 0 rfl ?_
          refine gx_gR (O := "BorrowedLives") (nm := "pairOf") (ds := "[I") (fin := true) C E dX1_pairs_2_93 (by decide +kernel) (Or.inl q394) (fun _ h => h) (fun v93 => ?_)
          refine gj_iload_n C dX1_pairs_2_96 3 rfl ?_
          refine gj_iload_n C dX1_pairs_2_97 1 rfl ?_
          refine gj_nrmI ?_
          refine gx_iast C E dX1_pairs_2_98 ?_
          refine gx_aload_n C dX1_pairs_2_99 0 rfl ?_
          refine gj_iload_n C dX1_pairs_2_100 1 rfl ?_
          refine gj_iconst C dX1_pairs_2_101 ?_
          refine gj_iadd C dX1_pairs_2_102 ?_
          refine gj_iload_n C dX1_pairs_2_103 2 rfl ?_
          refine gj_iconst C dX1_pairs_2_104 ?_
          refine gj_iadd C dX1_pairs_2_105 ?_
          refine gx_callVV (t0 := 1) (As := [.int (iI ((a1 + 1))), .int (iI ((a2 + 1)))]) (rest := []) C E rfl dX1_pairs_2_106 (hS a0 (a1 + 1) (a2 + 1)) (lw_V q1607 q1609 qs46 q125 q1610) hyx_X1_pairs_2 rfl hR (by omega) (by decide) rfl rfl (Nat.zero_le _) ?_
          refine gx_aload_n C dX1_pairs_2_109 0 rfl ?_
          refine gx_gR (O := "BorrowedLives") (nm := "pairOf") (ds := "[I") (fin := true) C E dX1_pairs_2_110 (by decide +kernel) (Or.inl q394) (fun _ h => h) (fun v110 => ?_)
          refine gj_iload_n C dX1_pairs_2_113 1 rfl ?_
          refine gj_iconst C dX1_pairs_2_114 ?_
          refine gx_iast C E dX1_pairs_2_115 ?_
          refine gx_aload_n C dX1_pairs_2_116 0 rfl ?_
          refine gx_gR (O := "BorrowedLives") (nm := "pairOf") (ds := "[I") (fin := true) C E dX1_pairs_2_117 (by decide +kernel) (Or.inl q394) (fun _ h => h) (fun v117 => ?_)
          refine gj_iload_n C dX1_pairs_2_120 3 rfl ?_
          refine gj_iconst C dX1_pairs_2_121 ?_
          refine gx_iast C E dX1_pairs_2_122 ?_
          exact gj_to [0, 1, 2, 3] (J123 a3) rfl
        · refine gj_goto (tgt := 123) C dX1_pairs_2_82 (by decide) ?_
          exact gj_to [0, 1, 2, 3] (J123 a3) rfl
  unfold x1_pairs_2_s
  refine gj_iload_n C dX1_pairs_2_0 1 rfl ?_
  refine gx_aload_n C dX1_pairs_2_1 0 rfl ?_
  refine gx_callVI (t0 := 1) (As := []) (rest := [.int (iI a1)]) C E rfl dX1_pairs_2_2 (mx1_people (cx_l X) g a0) (lw_V q1192 q1194 qs29 q125 q1195) hyx_X1_people rfl hR (by omega) (by decide) rfl rfl (Nat.le_of_ble_eq_true rfl) (fun v2 => ?_)
  refine gj_icmp_ne (tgt := 34) C dX1_pairs_2_5 (by decide) rfl rfl (fun h5 => gj_neg h5 ?_) (fun h5 => gj_pos h5 ?_)
  · refine gx_aload_n C dX1_pairs_2_34 0 rfl ?_
    refine gx_gR (O := "BorrowedLives") (nm := "pairOf") (ds := "[I") (fin := true) C E dX1_pairs_2_35 (by decide +kernel) (Or.inl q394) (fun _ h => h) (fun v35 => ?_)
    refine gj_iload_n C dX1_pairs_2_38 1 rfl ?_
    refine gx_iald C E dX1_pairs_2_39 (fun v39 => ?_)
    refine gj_if_lt (tgt := 52) C dX1_pairs_2_40 (by decide) (fun h40 => gj_pos h40 ?_) (fun h40 => gj_neg h40 ?_)
    · refine gj_iload_n C dX1_pairs_2_52 1 rfl ?_
      refine gj_iconst C dX1_pairs_2_53 ?_
      refine gj_iadd C dX1_pairs_2_54 ?_
      refine gj_let (fun x55 => ?_)
      refine gj_istore_n (L' := [(3, _), (0, _), (1, _), (2, _)]) C dX1_pairs_2_55 (by decide) rfl ?_
      exact gj_to [1, 2, 3, 0] (J56 a0 a1 a2 x55) rfl
    · refine gx_aload_n C dX1_pairs_2_43 0 rfl ?_
      refine gj_iload_n C dX1_pairs_2_44 1 rfl ?_
      refine gj_iconst C dX1_pairs_2_45 ?_
      refine gj_iadd C dX1_pairs_2_46 ?_
      refine gj_iload_n C dX1_pairs_2_47 2 rfl ?_
      refine gx_callVV (t0 := 1) (As := [.int (iI ((a1 + 1))), .int (iI a2)]) (rest := []) C E rfl dX1_pairs_2_48 (hS a0 (a1 + 1) a2) (lw_V q1607 q1609 qs46 q125 q1610) hyx_X1_pairs_2 rfl hR (by omega) (by decide) rfl rfl (Nat.zero_le _) ?_
      exact gx_vret C hQ hr dX1_pairs_2_51
  · refine gj_iload_n C dX1_pairs_2_8 2 rfl ?_
    refine gx_aload_n C dX1_pairs_2_9 0 rfl ?_
    refine gx_gI (O := "BorrowedLives") (nm := "bestPairs") (ds := "I") (fin := false) C E dX1_pairs_2_10 (by decide +kernel) (Or.inl q396) (fun _ h => h) (fun v10 => ?_)
    refine gj_icmp_gt (tgt := 17) C dX1_pairs_2_13 (by decide) rfl rfl (fun h13 => gj_pos h13 ?_) (fun h13 => gj_neg h13 ?_)
    · refine gx_aload_n C dX1_pairs_2_17 0 rfl ?_
      refine gj_iload_n C dX1_pairs_2_18 2 rfl ?_
      refine gj_nrmI ?_
      refine gx_pI (O := "BorrowedLives") (nm := "bestPairs") (ds := "I") (fin := false) (ty := .int) C E dX1_pairs_2_19 (by decide +kernel) (Or.inl q396) (fun _ h => h) (fun h => by cases h) (by decide +kernel) (inty_int _) ?_
      refine gx_aload_n C dX1_pairs_2_22 0 rfl ?_
      refine gx_gR (O := "BorrowedLives") (nm := "pairOf") (ds := "[I") (fin := true) C E dX1_pairs_2_23 (by decide +kernel) (Or.inl q394) (fun _ h => h) (fun v23 => ?_)
      refine gx_aload_n C dX1_pairs_2_26 0 rfl ?_
      refine gx_gR (O := "BorrowedLives") (nm := "bestPair") (ds := "[I") (fin := true) C E dX1_pairs_2_27 (by decide +kernel) (Or.inl q395) (fun _ h => h) (fun v27 => ?_)
      refine gx_callSV (As := [rv g v23, rv g v27]) (rest := []) C E dX1_pairs_2_30 (mx1_copies (cx_l X) g v23 v27) (lw_S q1398 q1311 q125 q1312) hyx_X1_copies hR (by omega) (by decide) rfl rfl (Nat.zero_le _) ?_
      exact gx_vret C hQ hr dX1_pairs_2_33
    · exact gx_vret C hQ hr dX1_pairs_2_16
def x1_pairs_2 : Nat → Option Nat → Int → Int → PT Hp Unit
  | 0 => fun _ _ _ => pfail
  | n + 1 => x1_pairs_2_s (x1_pairs_2 n)
theorem mx1_pairs_2 (l : Launch) (g : XG) : ∀ (n : Nat), ∀ (a0 : Option Nat) (a1 a2 : Int), XMet l g yX1_pairs_2 cX1_pairs_2 4 (Option.none : Option Jvm.ClassFile.FieldType) (704 + n) [rv g a0, .int (iI a1), .int (iI a2)] (x1_pairs_2 n a0 a1 a2) rvV := by
  intro n
  induction n with
  | zero => intro a0 a1 a2 Q σ h; exact h.elim
  | succ n ih => intro a0 a1 a2; exact mx1_pairs_2_s l g (by omega) ih a0 a1 a2
def x1_pairs_b18 (a0 : Option Nat) (a1 : Int) (a2 : Int) (bk18 : (Int) → PT Hp Int) : PT Hp Int :=
  pite (w32 a2 < 6) (
    pbnd (xgR a0 1 13) fun v25 =>
    pbnd (xst v25 40 a2 (-1)) fun _ =>
    bk18 (a2 + 1)) (
    pbnd (xpI a0 1 15 (-1)) fun _ =>
    pbnd (xrecv a0 1) fun _ =>
    pbnd (x1_pairs_2 10 a0 0 0) fun _ =>
    pite (w32 a1 = (-1)) (
      pbnd (xgI a0 1 15) fun v54 =>
      pret v54) (
      pbnd (xgR a0 1 14) fun v61 =>
      pbnd (xld v61 40 a1) fun v65 =>
      pret v65))
def x1_pairs_l18 (a0 : Option Nat) (a1 a2 : Int) : PT Hp Int :=
  ploop (fun (s : (Int)) bk18 => x1_pairs_b18 a0 a1 s bk18) (a2)
def x1_pairs_j16 (a0 : Option Nat) (a1 : Int) : PT Hp Int :=
  x1_pairs_l18 a0 a1 0
def x1_pairs (a0 : Option Nat) (a1 : Int) : PT Hp Int :=
  pite (w32 a1 = (-1)) (
    x1_pairs_j16 a0 a1) (
    pbnd (xrecv a0 1) fun _ =>
    pbnd (x1_isPerson a0 a1) fun v7 =>
    pite (w32 v7 = 0) (
      pret (-2)) (
      x1_pairs_j16 a0 a1))
set_option maxHeartbeats 4000000 in
set_option maxRecDepth 100000 in
theorem mx1_pairs (l : Launch) (g : XG) (a0 : Option Nat) (a1 : Int) : XMet l g yX1_pairs cX1_pairs 3 (Option.some Jvm.ClassFile.FieldType.int) (715) [rv g a0, .int (iI a1)] (x1_pairs a0 a1) rvI := by
  refine gx_start (by decide +kernel) (by have e := lg_sl_len [rv g a0, .int (iI a1)]; simp only [List.map_cons, List.map_nil, List.sum_cons, List.sum_nil, rv_cat, cat_int, cat_long] at e; omega) (fun X Q σ0 hl C E hQ hR hr hnm => ?_)
  subst hl
  rw [show lv_args 0 [rv g a0, .int (iI a1)] = [(0, rv g a0), (1, .int (iI a1))] from by simp [lv_args, rv_cat, cat_int, cat_long]]
  show GJ X 3 (xWo g σ0 (cx_s X).heap) Q (x1_pairs a0 a1) 0 [(0, rv g a0), (1, .int (iI a1))] []
  have J18 : ∀ (a0 : Option Nat) (a1 a2 : Int), GJ X 3 (xWo g σ0 (cx_s X).heap) Q (x1_pairs_l18 a0 a1 a2) 18 [(0, rv g a0), (1, .int (iI a1)), (2, .int (iI a2))] [] := by
    intro a0 a1 a2
    unfold x1_pairs_l18
    refine gj_loop (fun (s : (Int)) => [(0, rv g a0), (1, .int (iI a1)), (2, .int (iI s))]) (a2) (fun bk18 hb18 s => ?_)
    obtain ⟨a2, rfl⟩ : ∃ z, z = s := ⟨s, rfl⟩
    show GJ X 3 (xWo g σ0 (cx_s X).heap) Q (x1_pairs_b18 a0 a1 a2 bk18) 18 [(0, rv g a0), (1, .int (iI a1)), (2, .int (iI a2))] []
    unfold x1_pairs_b18
    refine gj_iload_n C dX1_pairs_18 2 rfl ?_
    refine gj_bipush C dX1_pairs_19 rfl ?_
    refine gj_icmp_ge (tgt := 37) (b' := 6) C dX1_pairs_21 (by decide) rfl (by decide) (fun h21 => gj_neg h21 ?_) (fun h21 => gj_pos h21 ?_)
    · refine gx_aload_n C dX1_pairs_37 0 rfl ?_
      refine gj_iconst C dX1_pairs_38 ?_
      refine gx_pI (O := "BorrowedLives") (nm := "bestPairs") (ds := "I") (fin := false) (ty := .int) C E dX1_pairs_39 (by decide +kernel) (Or.inl q396) (fun _ h => h) (fun h => by cases h) (by decide +kernel) (inty_int _) ?_
      refine gx_aload_n C dX1_pairs_42 0 rfl ?_
      refine gj_iconst C dX1_pairs_43 ?_
      refine gj_iconst C dX1_pairs_44 ?_
      refine gx_callVV (t0 := 1) (As := [.int (iI 0), .int (iI 0)]) (rest := []) C E rfl dX1_pairs_45 (mx1_pairs_2 (cx_l X) g 10 a0 0 0) (lw_V q1607 q1609 qs46 q125 q1610) hyx_X1_pairs_2 rfl hR (Nat.le_of_ble_eq_true rfl) (by decide) rfl rfl (Nat.zero_le _) ?_
      refine gj_iload_n C dX1_pairs_48 1 rfl ?_
      refine gj_iconst C dX1_pairs_49 ?_
      refine gj_icmp_ne (tgt := 60) (b' := (-1)) C dX1_pairs_50 (by decide) rfl (by decide) (fun h50 => gj_neg h50 ?_) (fun h50 => gj_pos h50 ?_)
      · refine gx_aload_n C dX1_pairs_60 0 rfl ?_
        refine gx_gR (O := "BorrowedLives") (nm := "bestPair") (ds := "[I") (fin := true) C E dX1_pairs_61 (by decide +kernel) (Or.inl q395) (fun _ h => h) (fun v61 => ?_)
        refine gj_iload_n C dX1_pairs_64 1 rfl ?_
        refine gx_iald C E dX1_pairs_65 (fun v65 => ?_)
        exact gx_iret C hQ hr dX1_pairs_66
      · refine gx_aload_n C dX1_pairs_53 0 rfl ?_
        refine gx_gI (O := "BorrowedLives") (nm := "bestPairs") (ds := "I") (fin := false) C E dX1_pairs_54 (by decide +kernel) (Or.inl q396) (fun _ h => h) (fun v54 => ?_)
        refine gj_goto (tgt := 66) C dX1_pairs_57 (by decide) ?_
        exact gx_iret C hQ hr dX1_pairs_66
    · refine gx_aload_n C dX1_pairs_24 0 rfl ?_
      refine gx_gR (O := "BorrowedLives") (nm := "pairOf") (ds := "[I") (fin := true) C E dX1_pairs_25 (by decide +kernel) (Or.inl q394) (fun _ h => h) (fun v25 => ?_)
      refine gj_iload_n C dX1_pairs_28 2 rfl ?_
      refine gj_iconst C dX1_pairs_29 ?_
      refine gx_iast C E dX1_pairs_30 ?_
      refine gj_iinc (L' := [(2, _), (0, _), (1, _)]) C dX1_pairs_31 2 rfl (by decide) rfl ?_
      refine gj_goto (tgt := 18) C dX1_pairs_34 (by decide) ?_
      exact gj_to [1, 2, 0] (hb18 (a2 + 1)) rfl
  have J16 : ∀ (a0 : Option Nat) (a1 : Int), GJ X 3 (xWo g σ0 (cx_s X).heap) Q (x1_pairs_j16 a0 a1) 16 [(0, rv g a0), (1, .int (iI a1))] [] := by
    intro a0 a1
    unfold x1_pairs_j16
    refine gj_iconst C dX1_pairs_16 ?_
    refine gj_istore_n (L' := [(2, _), (0, _), (1, _)]) C dX1_pairs_17 (by decide) rfl ?_
    exact gj_to [1, 2, 0] (J18 a0 a1 0) rfl
  unfold x1_pairs
  refine gj_iload_n C dX1_pairs_0 1 rfl ?_
  refine gj_iconst C dX1_pairs_1 ?_
  refine gj_icmp_eq (tgt := 16) (b' := (-1)) C dX1_pairs_2 (by decide) rfl (by decide) (fun h2 => gj_pos h2 ?_) (fun h2 => gj_neg h2 ?_)
  · exact gj_to [0, 1] (J16 a0 a1) rfl
  · refine gx_aload_n C dX1_pairs_5 0 rfl ?_
    refine gj_iload_n C dX1_pairs_6 1 rfl ?_
    refine gx_callVI (t0 := 1) (As := [.int (iI a1)]) (rest := []) C E rfl dX1_pairs_7 (mx1_isPerson (cx_l X) g a0 a1) (lw_V q1188 q1190 qs28 q125 q1191) hyx_X1_isPerson rfl hR (Nat.le_of_ble_eq_true rfl) (by decide) rfl rfl (Nat.zero_le _) (fun v7 => ?_)
    refine gj_if_ne (tgt := 16) C dX1_pairs_10 (by decide) (fun h10 => gj_neg h10 ?_) (fun h10 => gj_pos h10 ?_)
    · exact gj_to [0, 1] (J16 a0 a1) rfl
    · refine gj_bipush C dX1_pairs_13 rfl ?_
      exact gx_iret C hQ hr dX1_pairs_15
def x1_tale (a0 : Option Nat) (a1 a2 a3 : Int) : PT Hp Int :=
  pbnd (xrecv a0 1) fun _ =>
  pbnd (x1_isPerson a0 a1) fun v2 =>
  pite (w32 v2 = 0) (
    pbnd (pzo 0) fun _ => pret 0) (
    pbnd (x1_in a2 1 7) fun v12 =>
    pite (w32 v12 = 0) (
      pbnd (pzo 0) fun _ => pret 0) (
      pbnd (x1_in a3 0 9999) fun v23 =>
      pite (w32 v23 = 0) (
        pbnd (pzo 0) fun _ => pret 0) (
        pbnd (xgI a0 1 19) fun v30 =>
        pite (w32 v30 = 8) (
          pbnd (pzo 0) fun _ => pret 0) (
          pbnd (xgR a0 1 16) fun v41 =>
          pbnd (xgI a0 1 19) fun v45 =>
          pbnd (xst v41 40 v45 (w32 a1)) fun _ =>
          pbnd (xgR a0 1 17) fun v51 =>
          pbnd (xgI a0 1 19) fun v55 =>
          pbnd (xst v51 40 v55 (w32 a2)) fun _ =>
          pbnd (xgR a0 1 18) fun v61 =>
          pbnd (xgI a0 1 19) fun v66 =>
          pbnd (xpI a0 1 19 (w32 (v66 + 1))) fun _ =>
          pbnd (xst v61 40 v66 (w32 a3)) fun _ =>
          pbnd (pzo 1) fun _ => pret 1))))
set_option maxHeartbeats 4000000 in
set_option maxRecDepth 100000 in
theorem mx1_tale (l : Launch) (g : XG) (a0 : Option Nat) (a1 a2 a3 : Int) : XMet l g yX1_tale cX1_tale 4 (Option.some Jvm.ClassFile.FieldType.boolean) (3) [rv g a0, .int (iI a1), .int (iI a2), .int (iI a3)] (x1_tale a0 a1 a2 a3) rvI := by
  refine gx_start (by decide +kernel) (by have e := lg_sl_len [rv g a0, .int (iI a1), .int (iI a2), .int (iI a3)]; simp only [List.map_cons, List.map_nil, List.sum_cons, List.sum_nil, rv_cat, cat_int, cat_long] at e; omega) (fun X Q σ0 hl C E hQ hR hr hnm => ?_)
  subst hl
  rw [show lv_args 0 [rv g a0, .int (iI a1), .int (iI a2), .int (iI a3)] = [(0, rv g a0), (1, .int (iI a1)), (2, .int (iI a2)), (3, .int (iI a3))] from by simp [lv_args, rv_cat, cat_int, cat_long]]
  show GJ X 4 (xWo g σ0 (cx_s X).heap) Q (x1_tale a0 a1 a2 a3) 0 [(0, rv g a0), (1, .int (iI a1)), (2, .int (iI a2)), (3, .int (iI a3))] []
  unfold x1_tale
  refine gx_aload_n C dX1_tale_0 0 rfl ?_
  refine gj_iload_n C dX1_tale_1 1 rfl ?_
  refine gx_callVI (t0 := 1) (As := [.int (iI a1)]) (rest := []) C E rfl dX1_tale_2 (mx1_isPerson (cx_l X) g a0 a1) (lw_V q1188 q1190 qs28 q125 q1191) hyx_X1_isPerson rfl hR (Nat.le_of_ble_eq_true rfl) (by decide) rfl rfl (Nat.zero_le _) (fun v2 => ?_)
  refine gj_if_eq (tgt := 38) C dX1_tale_5 (by decide) (fun h5 => gj_pos h5 ?_) (fun h5 => gj_neg h5 ?_)
  · refine gj_iconst C dX1_tale_38 ?_
    exact gx_zret C hQ hr dX1_tale_39
  · refine gj_iload_n C dX1_tale_8 2 rfl ?_
    refine gj_iconst C dX1_tale_9 ?_
    refine gj_bipush C dX1_tale_10 rfl ?_
    refine gx_callSI (As := [.int (iI a2), .int (iI 1), .int (iI 7)]) (rest := []) C E dX1_tale_12 (mx1_in (cx_l X) g a2 1 7) (lw_S q1197 q1198 q125 q1199) hyx_X1_in hR (Nat.le_of_ble_eq_true rfl) (by decide) rfl rfl (Nat.zero_le _) (fun v12 => ?_)
    refine gj_if_eq (tgt := 38) C dX1_tale_15 (by decide) (fun h15 => gj_pos h15 ?_) (fun h15 => gj_neg h15 ?_)
    · refine gj_iconst C dX1_tale_38 ?_
      exact gx_zret C hQ hr dX1_tale_39
    · refine gj_iload_n C dX1_tale_18 3 rfl ?_
      refine gj_iconst C dX1_tale_19 ?_
      refine gj_sipush C dX1_tale_20 rfl ?_
      refine gx_callSI (As := [.int (iI a3), .int (iI 0), .int (iI 9999)]) (rest := []) C E dX1_tale_23 (mx1_in (cx_l X) g a3 0 9999) (lw_S q1197 q1198 q125 q1199) hyx_X1_in hR (Nat.le_of_ble_eq_true rfl) (by decide) rfl rfl (Nat.zero_le _) (fun v23 => ?_)
      refine gj_if_eq (tgt := 38) C dX1_tale_26 (by decide) (fun h26 => gj_pos h26 ?_) (fun h26 => gj_neg h26 ?_)
      · refine gj_iconst C dX1_tale_38 ?_
        exact gx_zret C hQ hr dX1_tale_39
      · refine gx_aload_n C dX1_tale_29 0 rfl ?_
        refine gx_gI (O := "BorrowedLives") (nm := "tales") (ds := "I") (fin := false) C E dX1_tale_30 (by decide +kernel) (Or.inl q400) (fun _ h => h) (fun v30 => ?_)
        refine gj_bipush C dX1_tale_33 rfl ?_
        refine gj_icmp_ne (tgt := 40) (b' := 8) C dX1_tale_35 (by decide) rfl (by decide) (fun h35 => gj_neg h35 ?_) (fun h35 => gj_pos h35 ?_)
        · refine gx_aload_n C dX1_tale_40 0 rfl ?_
          refine gx_gR (O := "BorrowedLives") (nm := "taleLife") (ds := "[I") (fin := true) C E dX1_tale_41 (by decide +kernel) (Or.inl q397) (fun _ h => h) (fun v41 => ?_)
          refine gx_aload_n C dX1_tale_44 0 rfl ?_
          refine gx_gI (O := "BorrowedLives") (nm := "tales") (ds := "I") (fin := false) C E dX1_tale_45 (by decide +kernel) (Or.inl q400) (fun _ h => h) (fun v45 => ?_)
          refine gj_iload_n C dX1_tale_48 1 rfl ?_
          refine gj_nrmI ?_
          refine gx_iast C E dX1_tale_49 ?_
          refine gx_aload_n C dX1_tale_50 0 rfl ?_
          refine gx_gR (O := "BorrowedLives") (nm := "taleDay") (ds := "[I") (fin := true) C E dX1_tale_51 (by decide +kernel) (Or.inl q398) (fun _ h => h) (fun v51 => ?_)
          refine gx_aload_n C dX1_tale_54 0 rfl ?_
          refine gx_gI (O := "BorrowedLives") (nm := "tales") (ds := "I") (fin := false) C E dX1_tale_55 (by decide +kernel) (Or.inl q400) (fun _ h => h) (fun v55 => ?_)
          refine gj_iload_n C dX1_tale_58 2 rfl ?_
          refine gj_nrmI ?_
          refine gx_iast C E dX1_tale_59 ?_
          refine gx_aload_n C dX1_tale_60 0 rfl ?_
          refine gx_gR (O := "BorrowedLives") (nm := "talePurse") (ds := "[I") (fin := true) C E dX1_tale_61 (by decide +kernel) (Or.inl q399) (fun _ h => h) (fun v61 => ?_)
          refine gx_aload_n C dX1_tale_64 0 rfl ?_
          refine gx_dup C dX1_tale_65 ?_
          refine gx_gI (O := "BorrowedLives") (nm := "tales") (ds := "I") (fin := false) C E dX1_tale_66 (by decide +kernel) (Or.inl q400) (fun _ h => h) (fun v66 => ?_)
          refine gj_dup_x1 C dX1_tale_69 rfl (rv_cat _ _) ?_
          refine gj_iconst C dX1_tale_70 ?_
          refine gj_iadd C dX1_tale_71 ?_
          refine gj_nrmI ?_
          refine gx_pI (O := "BorrowedLives") (nm := "tales") (ds := "I") (fin := false) (ty := .int) C E dX1_tale_72 (by decide +kernel) (Or.inl q400) (fun _ h => h) (fun h => by cases h) (by decide +kernel) (inty_int _) ?_
          refine gj_iload_n C dX1_tale_75 3 rfl ?_
          refine gj_nrmI ?_
          refine gx_iast C E dX1_tale_76 ?_
          refine gj_iconst C dX1_tale_77 ?_
          exact gx_zret C hQ hr dX1_tale_78
        · refine gj_iconst C dX1_tale_38 ?_
          exact gx_zret C hQ hr dX1_tale_39
def x27_init (a0 a1 : Option Nat) : PT Hp Unit :=
  pbnd (xpR a0 23 4 a1) fun _ =>
  pbnd (xnn a0) fun _ =>
  pbnd (x22_init a0 a1) fun _ =>
  pbnd (xnewa 40 6) fun v13 =>
  pbnd (xpR a0 23 2 v13) fun _ =>
  pret ()
set_option maxHeartbeats 4000000 in
set_option maxRecDepth 100000 in
theorem mx27_init (l : Launch) (g : XG) (a0 a1 : Option Nat) : XMet l g yX27_init cX27_init 2 (Option.none : Option Jvm.ClassFile.FieldType) (2) [rv g a0, rv g a1] (x27_init a0 a1) rvV := by
  refine gx_start (by decide +kernel) (by have e := lg_sl_len [rv g a0, rv g a1]; simp only [List.map_cons, List.map_nil, List.sum_cons, List.sum_nil, rv_cat, cat_int, cat_long] at e; omega) (fun X Q σ0 hl C E hQ hR hr hnm => ?_)
  subst hl
  rw [show lv_args 0 [rv g a0, rv g a1] = [(0, rv g a0), (1, rv g a1)] from by simp [lv_args, rv_cat, cat_int, cat_long]]
  show GJ X 2 (xWo g σ0 (cx_s X).heap) Q (x27_init a0 a1) 0 [(0, rv g a0), (1, rv g a1)] []
  unfold x27_init
  refine gx_aload_n C dX27_init_0 0 rfl ?_
  refine gx_aload_n C dX27_init_1 1 rfl ?_
  refine gx_pR (O := "BorrowedLives$Fits") (nm := "this$0") (ds := "LBorrowedLives;") (fin := true) (ty := (.object "BorrowedLives")) C E dX27_init_2 (by decide +kernel) (Or.inl q1637) (fun _ h => h) (fun _ => ⟨hnm, rfl⟩) (by decide +kernel) (by decide) ?_
  refine gx_aload_n C dX27_init_5 0 rfl ?_
  refine gx_aload_n C dX27_init_6 1 rfl ?_
  refine gx_callINV (As := [rv g a1]) (rest := []) C E dX27_init_7 (mx22_init (cx_l X) g a0 a1) (lw_meth q1257) q164 q1632 q1256 rfl hyx_X22_init hR (Nat.le_of_ble_eq_true rfl) (by decide) rfl rfl (Nat.zero_le _) ?_
  refine gx_aload_n C dX27_init_10 0 rfl ?_
  refine gj_bipush C dX27_init_11 rfl ?_
  refine gx_newa (t0 := 0) C E dX27_init_13 (by decide) rfl q340 (by decide) rfl (fun v13 => ?_)
  refine gx_pR (O := "BorrowedLives$Fits") (nm := "selves") (ds := "[I") (fin := true) (ty := (.array .int)) C E dX27_init_15 (by decide +kernel) (Or.inl q1633) (fun _ h => h) (fun _ => ⟨hnm, rfl⟩) (by decide +kernel) (by decide) ?_
  exact gx_vret C hQ hr dX27_init_18
def x1_how (a0 : Option Nat) : PT Hp Int :=
  pbnd (xnew 23) fun v0 =>
  pbnd (xnn v0) fun _ =>
  pbnd (x27_init v0 a0) fun _ =>
  pbnd (xrecv a0 1) fun _ =>
  pbnd (x1_shows a0 v0) fun _ =>
  pbnd (xgI v0 23 3) fun v15 =>
  pret v15
set_option maxHeartbeats 4000000 in
set_option maxRecDepth 100000 in
theorem mx1_how (l : Launch) (g : XG) (a0 : Option Nat) : XMet l g yX1_how cX1_how 2 (Option.some Jvm.ClassFile.FieldType.int) (718) [rv g a0] (x1_how a0) rvI := by
  refine gx_start (by decide +kernel) (by have e := lg_sl_len [rv g a0]; simp only [List.map_cons, List.map_nil, List.sum_cons, List.sum_nil, rv_cat, cat_int, cat_long] at e; omega) (fun X Q σ0 hl C E hQ hR hr hnm => ?_)
  subst hl
  rw [show lv_args 0 [rv g a0] = [(0, rv g a0)] from by simp [lv_args, rv_cat, cat_int, cat_long]]
  show GJ X 2 (xWo g σ0 (cx_s X).heap) Q (x1_how a0) 0 [(0, rv g a0)] []
  unfold x1_how
  refine gx_new (t0 := 23) C E dX1_how_0 rfl q1627 q1628 q170 (fun v0 => ?_)
  refine gx_dup C dX1_how_3 ?_
  refine gx_aload_n C dX1_how_4 0 rfl ?_
  refine gx_callINV (As := [rv g a0]) (rest := [rv g v0]) C E dX1_how_5 (mx27_init (cx_l X) g v0 a0) (lw_meth q1631) q170 q1629 q1630 rfl hyx_X27_init hR (Nat.le_of_ble_eq_true rfl) (by decide) rfl rfl (by simp only [List.map_cons, List.map_nil, List.sum_cons, List.sum_nil, rv_cat, cat_int, cat_long]; decide) ?_
  refine gx_astore_n (L' := [(1, rv g v0), (0, rv g a0)]) C dX1_how_8 (by decide) (by simp [List.filter, rv_cat, cat_int, cat_long, fin4_3]) ?_
  refine gx_aload_n C dX1_how_9 1 rfl ?_
  refine gx_aload_n C dX1_how_10 0 rfl ?_
  refine gx_callVV (t0 := 1) (As := [rv g v0]) (rest := []) C E rfl dX1_how_11 (mx1_shows (cx_l X) g a0 v0) (lw_V q1288 q1290 qs32 q125 q1291) hyx_X1_shows rfl hR (Nat.le_of_ble_eq_true rfl) (by decide) rfl rfl (Nat.zero_le _) ?_
  refine gx_aload_n C dX1_how_14 0 rfl ?_
  refine gx_gI (O := "BorrowedLives$Fits") (nm := "many") (ds := "I") (fin := false) C E dX1_how_15 (by decide +kernel) (Or.inr ⟨_, q1636⟩) (fun _ h => h) (fun v15 => ?_)
  exact gx_iret C hQ hr dX1_how_18
def j18_bitCount (a0 : Int) : PT Hp Int :=
  plet (a0 - (zand (zushr a0 1) 1431655765)) fun x9 =>
  plet ((zand x9 858993459) + (zand (zushr x9 2) 858993459)) fun x23 =>
  plet (zand ((x23 + (zushr x23 4))) 252645135) fun x33 =>
  plet (x33 + (zushr x33 8)) fun x40 =>
  plet (x40 + (zushr x40 16)) fun x47 =>
  pret (zand x47 63)
set_option maxHeartbeats 4000000 in
set_option maxRecDepth 100000 in
theorem mj18_bitCount (l : Launch) (g : XG) (a0 : Int) : XMet l g yJ18_bitCount cJ18_bitCount 1 (Option.some Jvm.ClassFile.FieldType.int) (0) [.int (iI a0)] (j18_bitCount a0) rvI := by
  refine gx_start (by decide +kernel) (by have e := lg_sl_len [.int (iI a0)]; simp only [List.map_cons, List.map_nil, List.sum_cons, List.sum_nil, rv_cat, cat_int, cat_long] at e; omega) (fun X Q σ0 hl C E hQ hR hr hnm => ?_)
  subst hl
  show GJ X 1 (xWo g σ0 (cx_s X).heap) Q (j18_bitCount a0) 0 [(0, .int (iI a0))] []
  unfold j18_bitCount
  refine gj_iload_n C dJ18_bitCount_0 0 rfl ?_
  refine gj_iload_n C dJ18_bitCount_1 0 rfl ?_
  refine gj_iconst C dJ18_bitCount_2 ?_
  refine gj_iushr C dJ18_bitCount_3 ?_
  refine gj_ldcw (z := 1431655765) C dJ18_bitCount_4 q1654 (by decide) ?_
  refine gj_iand C dJ18_bitCount_7 ?_
  refine gj_isub C dJ18_bitCount_8 ?_
  refine gj_let (fun x9 => ?_)
  refine gj_istore_n (L' := [(0, _)]) C dJ18_bitCount_9 (by decide) rfl ?_
  refine gj_iload_n C dJ18_bitCount_10 0 rfl ?_
  refine gj_ldcw (z := 858993459) C dJ18_bitCount_11 q1655 (by decide) ?_
  refine gj_iand C dJ18_bitCount_14 ?_
  refine gj_iload_n C dJ18_bitCount_15 0 rfl ?_
  refine gj_iconst C dJ18_bitCount_16 ?_
  refine gj_iushr C dJ18_bitCount_17 ?_
  refine gj_ldcw (z := 858993459) C dJ18_bitCount_18 q1655 (by decide) ?_
  refine gj_iand C dJ18_bitCount_21 ?_
  refine gj_iadd C dJ18_bitCount_22 ?_
  refine gj_let (fun x23 => ?_)
  refine gj_istore_n (L' := [(0, _)]) C dJ18_bitCount_23 (by decide) rfl ?_
  refine gj_iload_n C dJ18_bitCount_24 0 rfl ?_
  refine gj_iload_n C dJ18_bitCount_25 0 rfl ?_
  refine gj_iconst C dJ18_bitCount_26 ?_
  refine gj_iushr C dJ18_bitCount_27 ?_
  refine gj_iadd C dJ18_bitCount_28 ?_
  refine gj_ldcw (z := 252645135) C dJ18_bitCount_29 q1656 (by decide) ?_
  refine gj_iand C dJ18_bitCount_32 ?_
  refine gj_let (fun x33 => ?_)
  refine gj_istore_n (L' := [(0, _)]) C dJ18_bitCount_33 (by decide) rfl ?_
  refine gj_iload_n C dJ18_bitCount_34 0 rfl ?_
  refine gj_iload_n C dJ18_bitCount_35 0 rfl ?_
  refine gj_bipush C dJ18_bitCount_36 rfl ?_
  refine gj_iushr C dJ18_bitCount_38 ?_
  refine gj_iadd C dJ18_bitCount_39 ?_
  refine gj_let (fun x40 => ?_)
  refine gj_istore_n (L' := [(0, _)]) C dJ18_bitCount_40 (by decide) rfl ?_
  refine gj_iload_n C dJ18_bitCount_41 0 rfl ?_
  refine gj_iload_n C dJ18_bitCount_42 0 rfl ?_
  refine gj_bipush C dJ18_bitCount_43 rfl ?_
  refine gj_iushr C dJ18_bitCount_45 ?_
  refine gj_iadd C dJ18_bitCount_46 ?_
  refine gj_let (fun x47 => ?_)
  refine gj_istore_n (L' := [(0, _)]) C dJ18_bitCount_47 (by decide) rfl ?_
  refine gj_iload_n C dJ18_bitCount_48 0 rfl ?_
  refine gj_bipush C dJ18_bitCount_49 rfl ?_
  refine gj_iand C dJ18_bitCount_51 ?_
  exact gx_iret C hQ hr dJ18_bitCount_52
def j18_numberOfTrailingZeros_j74 (a0 a1 : Int) : PT Hp Int :=
  pret (w32 (a1 + (zushr a0 1)))
def j18_numberOfTrailingZeros_j62 (a0 a1 : Int) : PT Hp Int :=
  pite (4 < w32 a0) (
    plet (zushr a0 2) fun x73 =>
    j18_numberOfTrailingZeros_j74 x73 (a1 + 2)) (
    j18_numberOfTrailingZeros_j74 a0 a1)
def j18_numberOfTrailingZeros_j49 (a0 a1 : Int) : PT Hp Int :=
  pite (16 < w32 a0) (
    plet (zushr a0 4) fun x61 =>
    j18_numberOfTrailingZeros_j62 x61 (a1 + 4)) (
    j18_numberOfTrailingZeros_j62 a0 a1)
def j18_numberOfTrailingZeros_j34 (a0 a1 : Int) : PT Hp Int :=
  pite (256 < w32 a0) (
    plet (zushr a0 8) fun x48 =>
    j18_numberOfTrailingZeros_j49 x48 (a1 + 8)) (
    j18_numberOfTrailingZeros_j49 a0 a1)
def j18_numberOfTrailingZeros (a0 : Int) : PT Hp Int :=
  plet (zand (zxor a0 (-1)) ((a0 - 1))) fun x7 =>
  pite (0 < w32 x7) (
    pite (65536 < w32 x7) (
      plet (zushr x7 16) fun x33 =>
      j18_numberOfTrailingZeros_j34 x33 (1 + 16)) (
      j18_numberOfTrailingZeros_j34 x7 1)) (
    pret (zand x7 32))
set_option maxHeartbeats 4000000 in
set_option maxRecDepth 100000 in
theorem mj18_numberOfTrailingZeros (l : Launch) (g : XG) (a0 : Int) : XMet l g yJ18_numberOfTrailingZeros cJ18_numberOfTrailingZeros 2 (Option.some Jvm.ClassFile.FieldType.int) (0) [.int (iI a0)] (j18_numberOfTrailingZeros a0) rvI := by
  refine gx_start (by decide +kernel) (by have e := lg_sl_len [.int (iI a0)]; simp only [List.map_cons, List.map_nil, List.sum_cons, List.sum_nil, rv_cat, cat_int, cat_long] at e; omega) (fun X Q σ0 hl C E hQ hR hr hnm => ?_)
  subst hl
  show GJ X 2 (xWo g σ0 (cx_s X).heap) Q (j18_numberOfTrailingZeros a0) 0 [(0, .int (iI a0))] []
  have J74 : ∀ (a0 a1 : Int), GJ X 2 (xWo g σ0 (cx_s X).heap) Q (j18_numberOfTrailingZeros_j74 a0 a1) 74 [(0, .int (iI a0)), (1, .int (iI a1))] [] := by
    intro a0 a1
    unfold j18_numberOfTrailingZeros_j74
    refine gj_iload_n C dJ18_numberOfTrailingZeros_74 1 rfl ?_
    refine gj_iload_n C dJ18_numberOfTrailingZeros_75 0 rfl ?_
    refine gj_iconst C dJ18_numberOfTrailingZeros_76 ?_
    refine gj_iushr C dJ18_numberOfTrailingZeros_77 ?_
    refine gj_iadd C dJ18_numberOfTrailingZeros_78 ?_
    refine gj_nrmI ?_
    exact gx_iret C hQ hr dJ18_numberOfTrailingZeros_79
  have J62 : ∀ (a0 a1 : Int), GJ X 2 (xWo g σ0 (cx_s X).heap) Q (j18_numberOfTrailingZeros_j62 a0 a1) 62 [(0, .int (iI a0)), (1, .int (iI a1))] [] := by
    intro a0 a1
    unfold j18_numberOfTrailingZeros_j62
    refine gj_iload_n C dJ18_numberOfTrailingZeros_62 0 rfl ?_
    refine gj_iconst C dJ18_numberOfTrailingZeros_63 ?_
    refine gj_icmp_le (tgt := 74) (b' := 4) C dJ18_numberOfTrailingZeros_64 (by decide) rfl (by decide) (fun h64 => gj_neg h64 ?_) (fun h64 => gj_pos h64 ?_)
    · exact gj_to [0, 1] (J74 a0 a1) rfl
    · refine gj_iinc (L' := [(1, _), (0, _)]) C dJ18_numberOfTrailingZeros_67 1 rfl (by decide) rfl ?_
      refine gj_iload_n C dJ18_numberOfTrailingZeros_70 1 rfl ?_
      refine gj_iconst C dJ18_numberOfTrailingZeros_71 ?_
      refine gj_iushr C dJ18_numberOfTrailingZeros_72 ?_
      refine gj_let (fun x73 => ?_)
      refine gj_istore_n (L' := [(0, _), (1, _)]) C dJ18_numberOfTrailingZeros_73 (by decide) rfl ?_
      exact gj_to [0, 1] (J74 x73 (a1 + 2)) rfl
  have J49 : ∀ (a0 a1 : Int), GJ X 2 (xWo g σ0 (cx_s X).heap) Q (j18_numberOfTrailingZeros_j49 a0 a1) 49 [(0, .int (iI a0)), (1, .int (iI a1))] [] := by
    intro a0 a1
    unfold j18_numberOfTrailingZeros_j49
    refine gj_iload_n C dJ18_numberOfTrailingZeros_49 0 rfl ?_
    refine gj_bipush C dJ18_numberOfTrailingZeros_50 rfl ?_
    refine gj_icmp_le (tgt := 62) (b' := 16) C dJ18_numberOfTrailingZeros_52 (by decide) rfl (by decide) (fun h52 => gj_neg h52 ?_) (fun h52 => gj_pos h52 ?_)
    · exact gj_to [0, 1] (J62 a0 a1) rfl
    · refine gj_iinc (L' := [(1, _), (0, _)]) C dJ18_numberOfTrailingZeros_55 1 rfl (by decide) rfl ?_
      refine gj_iload_n C dJ18_numberOfTrailingZeros_58 1 rfl ?_
      refine gj_iconst C dJ18_numberOfTrailingZeros_59 ?_
      refine gj_iushr C dJ18_numberOfTrailingZeros_60 ?_
      refine gj_let (fun x61 => ?_)
      refine gj_istore_n (L' := [(0, _), (1, _)]) C dJ18_numberOfTrailingZeros_61 (by decide) rfl ?_
      exact gj_to [0, 1] (J62 x61 (a1 + 4)) rfl
  have J34 : ∀ (a0 a1 : Int), GJ X 2 (xWo g σ0 (cx_s X).heap) Q (j18_numberOfTrailingZeros_j34 a0 a1) 34 [(0, .int (iI a0)), (1, .int (iI a1))] [] := by
    intro a0 a1
    unfold j18_numberOfTrailingZeros_j34
    refine gj_iload_n C dJ18_numberOfTrailingZeros_34 0 rfl ?_
    refine gj_sipush C dJ18_numberOfTrailingZeros_35 rfl ?_
    refine gj_icmp_le (tgt := 49) (b' := 256) C dJ18_numberOfTrailingZeros_38 (by decide) rfl (by decide) (fun h38 => gj_neg h38 ?_) (fun h38 => gj_pos h38 ?_)
    · exact gj_to [0, 1] (J49 a0 a1) rfl
    · refine gj_iinc (L' := [(1, _), (0, _)]) C dJ18_numberOfTrailingZeros_41 1 rfl (by decide) rfl ?_
      refine gj_iload_n C dJ18_numberOfTrailingZeros_44 1 rfl ?_
      refine gj_bipush C dJ18_numberOfTrailingZeros_45 rfl ?_
      refine gj_iushr C dJ18_numberOfTrailingZeros_47 ?_
      refine gj_let (fun x48 => ?_)
      refine gj_istore_n (L' := [(0, _), (1, _)]) C dJ18_numberOfTrailingZeros_48 (by decide) rfl ?_
      exact gj_to [0, 1] (J49 x48 (a1 + 8)) rfl
  unfold j18_numberOfTrailingZeros
  refine gj_iload_n C dJ18_numberOfTrailingZeros_0 0 rfl ?_
  refine gj_iconst C dJ18_numberOfTrailingZeros_1 ?_
  refine gj_ixor C dJ18_numberOfTrailingZeros_2 ?_
  refine gj_iload_n C dJ18_numberOfTrailingZeros_3 0 rfl ?_
  refine gj_iconst C dJ18_numberOfTrailingZeros_4 ?_
  refine gj_isub C dJ18_numberOfTrailingZeros_5 ?_
  refine gj_iand C dJ18_numberOfTrailingZeros_6 ?_
  refine gj_let (fun x7 => ?_)
  refine gj_istore_n (L' := [(0, _)]) C dJ18_numberOfTrailingZeros_7 (by decide) rfl ?_
  refine gj_iload_n C dJ18_numberOfTrailingZeros_8 0 rfl ?_
  refine gj_if_gt (tgt := 17) C dJ18_numberOfTrailingZeros_9 (by decide) (fun h9 => gj_pos h9 ?_) (fun h9 => gj_neg h9 ?_)
  · refine gj_iconst C dJ18_numberOfTrailingZeros_17 ?_
    refine gj_istore_n (L' := [(1, _), (0, _)]) C dJ18_numberOfTrailingZeros_18 (by decide) rfl ?_
    refine gj_iload_n C dJ18_numberOfTrailingZeros_19 1 rfl ?_
    refine gj_ldcw (z := 65536) C dJ18_numberOfTrailingZeros_20 q1660 (by decide) ?_
    refine gj_icmp_le (tgt := 34) (b' := 65536) C dJ18_numberOfTrailingZeros_23 (by decide) rfl (by decide) (fun h23 => gj_neg h23 ?_) (fun h23 => gj_pos h23 ?_)
    · exact gj_to [1, 0] (J34 x7 1) rfl
    · refine gj_iinc (L' := [(1, _), (0, _)]) C dJ18_numberOfTrailingZeros_26 0 rfl (by decide) rfl ?_
      refine gj_iload_n C dJ18_numberOfTrailingZeros_29 1 rfl ?_
      refine gj_bipush C dJ18_numberOfTrailingZeros_30 rfl ?_
      refine gj_iushr C dJ18_numberOfTrailingZeros_32 ?_
      refine gj_let (fun x33 => ?_)
      refine gj_istore_n (L' := [(0, _), (1, _)]) C dJ18_numberOfTrailingZeros_33 (by decide) rfl ?_
      exact gj_to [0, 1] (J34 x33 (1 + 16)) rfl
  · refine gj_iload_n C dJ18_numberOfTrailingZeros_12 0 rfl ?_
    refine gj_bipush C dJ18_numberOfTrailingZeros_13 rfl ?_
    refine gj_iand C dJ18_numberOfTrailingZeros_15 ?_
    exact gx_iret C hQ hr dJ18_numberOfTrailingZeros_16
def x1_who_j44 : PT Hp Int :=
  pret (-1)
def x1_who (a0 : Option Nat) (a1 : Int) : PT Hp Int :=
  pbnd (xrecv a0 1) fun _ =>
  pbnd (x1_isPerson a0 a1) fun v2 =>
  pite (w32 v2 = 0) (
    pret (-1)) (
    pbnd (xnew 23) fun v10 =>
    pbnd (xnn v10) fun _ =>
    pbnd (x27_init v10 a0) fun _ =>
    pbnd (xrecv a0 1) fun _ =>
    pbnd (x1_shows a0 v10) fun _ =>
    pbnd (xgI v10 23 3) fun v25 =>
    pite (w32 v25 = 0) (
      x1_who_j44) (
      pbnd (xgR v10 23 2) fun v32 =>
      pbnd (xld v32 40 a1) fun v36 =>
      pbnd (j18_bitCount v36) fun v37 =>
      pite (1 < w32 v37) (
        x1_who_j44) (
        pbnd (xgR v10 23 2) fun v49 =>
        pbnd (xld v49 40 a1) fun v53 =>
        pbnd (j18_numberOfTrailingZeros v53) fun v54 =>
        pret v54)))
set_option maxHeartbeats 4000000 in
set_option maxRecDepth 100000 in
theorem mx1_who (l : Launch) (g : XG) (a0 : Option Nat) (a1 : Int) : XMet l g yX1_who cX1_who 3 (Option.some Jvm.ClassFile.FieldType.int) (718) [rv g a0, .int (iI a1)] (x1_who a0 a1) rvI := by
  refine gx_start (by decide +kernel) (by have e := lg_sl_len [rv g a0, .int (iI a1)]; simp only [List.map_cons, List.map_nil, List.sum_cons, List.sum_nil, rv_cat, cat_int, cat_long] at e; omega) (fun X Q σ0 hl C E hQ hR hr hnm => ?_)
  subst hl
  rw [show lv_args 0 [rv g a0, .int (iI a1)] = [(0, rv g a0), (1, .int (iI a1))] from by simp [lv_args, rv_cat, cat_int, cat_long]]
  show GJ X 3 (xWo g σ0 (cx_s X).heap) Q (x1_who a0 a1) 0 [(0, rv g a0), (1, .int (iI a1))] []
  have J44 : GJ X 3 (xWo g σ0 (cx_s X).heap) Q (x1_who_j44) 44 [] [] := by
    unfold x1_who_j44
    refine gj_iconst C dX1_who_44 ?_
    refine gj_goto (tgt := 57) C dX1_who_45 (by decide) ?_
    exact gx_iret C hQ hr dX1_who_57
  unfold x1_who
  refine gx_aload_n C dX1_who_0 0 rfl ?_
  refine gj_iload_n C dX1_who_1 1 rfl ?_
  refine gx_callVI (t0 := 1) (As := [.int (iI a1)]) (rest := []) C E rfl dX1_who_2 (mx1_isPerson (cx_l X) g a0 a1) (lw_V q1188 q1190 qs28 q125 q1191) hyx_X1_isPerson rfl hR (Nat.le_of_ble_eq_true rfl) (by decide) rfl rfl (Nat.zero_le _) (fun v2 => ?_)
  refine gj_if_ne (tgt := 10) C dX1_who_5 (by decide) (fun h5 => gj_neg h5 ?_) (fun h5 => gj_pos h5 ?_)
  · refine gx_new (t0 := 23) C E dX1_who_10 rfl q1627 q1628 q170 (fun v10 => ?_)
    refine gx_dup C dX1_who_13 ?_
    refine gx_aload_n C dX1_who_14 0 rfl ?_
    refine gx_callINV (As := [rv g a0]) (rest := [rv g v10]) C E dX1_who_15 (mx27_init (cx_l X) g v10 a0) (lw_meth q1631) q170 q1629 q1630 rfl hyx_X27_init hR (Nat.le_of_ble_eq_true rfl) (by decide) rfl rfl (by simp only [List.map_cons, List.map_nil, List.sum_cons, List.sum_nil, rv_cat, cat_int, cat_long]; decide) ?_
    refine gx_astore_n (L' := [(2, _), (0, _), (1, _)]) C dX1_who_18 (by decide) rfl ?_
    refine gx_aload_n C dX1_who_19 1 rfl ?_
    refine gx_aload_n C dX1_who_20 0 rfl ?_
    refine gx_callVV (t0 := 1) (As := [rv g v10]) (rest := []) C E rfl dX1_who_21 (mx1_shows (cx_l X) g a0 v10) (lw_V q1288 q1290 qs32 q125 q1291) hyx_X1_shows rfl hR (Nat.le_of_ble_eq_true rfl) (by decide) rfl rfl (Nat.zero_le _) ?_
    refine gx_aload_n C dX1_who_24 0 rfl ?_
    refine gx_gI (O := "BorrowedLives$Fits") (nm := "many") (ds := "I") (fin := false) C E dX1_who_25 (by decide +kernel) (Or.inr ⟨_, q1636⟩) (fun _ h => h) (fun v25 => ?_)
    refine gj_if_eq (tgt := 44) C dX1_who_28 (by decide) (fun h28 => gj_pos h28 ?_) (fun h28 => gj_neg h28 ?_)
    · exact gj_to [] (J44) rfl
    · refine gx_aload_n C dX1_who_31 0 rfl ?_
      refine gx_gR (O := "BorrowedLives$Fits") (nm := "selves") (ds := "[I") (fin := true) C E dX1_who_32 (by decide +kernel) (Or.inr ⟨_, q1634⟩) (fun _ h => h) (fun v32 => ?_)
      refine gj_iload_n C dX1_who_35 2 rfl ?_
      refine gx_iald C E dX1_who_36 (fun v36 => ?_)
      refine gx_callSI (As := [.int (iI v36)]) (rest := []) C E dX1_who_37 (mj18_bitCount (cx_l X) g v36) (lw_S q1651 q1652 q171 q1653) hyx_J18_bitCount hR (Nat.le_of_ble_eq_true rfl) (by decide) rfl rfl (Nat.zero_le _) (fun v37 => ?_)
      refine gj_iconst C dX1_who_40 ?_
      refine gj_icmp_le (tgt := 48) (b' := 1) C dX1_who_41 (by decide) rfl (by decide) (fun h41 => gj_neg h41 ?_) (fun h41 => gj_pos h41 ?_)
      · refine gx_aload_n C dX1_who_48 0 rfl ?_
        refine gx_gR (O := "BorrowedLives$Fits") (nm := "selves") (ds := "[I") (fin := true) C E dX1_who_49 (by decide +kernel) (Or.inr ⟨_, q1634⟩) (fun _ h => h) (fun v49 => ?_)
        refine gj_iload_n C dX1_who_52 2 rfl ?_
        refine gx_iald C E dX1_who_53 (fun v53 => ?_)
        refine gx_callSI (As := [.int (iI v53)]) (rest := []) C E dX1_who_54 (mj18_numberOfTrailingZeros (cx_l X) g v53) (lw_S q1657 q1658 q171 q1659) hyx_J18_numberOfTrailingZeros hR (Nat.le_of_ble_eq_true rfl) (by decide) rfl rfl (Nat.zero_le _) (fun v54 => ?_)
        exact gx_iret C hQ hr dX1_who_57
      · exact gj_to [] (J44) rfl
  · refine gj_iconst C dX1_who_8 ?_
    exact gx_iret C hQ hr dX1_who_9
def x28_init (a0 a1 : Option Nat) (a2 a3 : Int) : PT Hp Unit :=
  pbnd (xpR a0 24 5 a1) fun _ =>
  pbnd (xnn a0) fun _ =>
  pbnd (x22_init a0 a1) fun _ =>
  pbnd (xpI a0 24 2 (w32 a2)) fun _ =>
  pbnd (xpI a0 24 3 (w32 a3)) fun _ =>
  pret ()
set_option maxHeartbeats 4000000 in
set_option maxRecDepth 100000 in
theorem mx28_init (l : Launch) (g : XG) (a0 a1 : Option Nat) (a2 a3 : Int) : XMet l g yX28_init cX28_init 4 (Option.none : Option Jvm.ClassFile.FieldType) (2) [rv g a0, rv g a1, .int (iI a2), .int (iI a3)] (x28_init a0 a1 a2 a3) rvV := by
  refine gx_start (by decide +kernel) (by have e := lg_sl_len [rv g a0, rv g a1, .int (iI a2), .int (iI a3)]; simp only [List.map_cons, List.map_nil, List.sum_cons, List.sum_nil, rv_cat, cat_int, cat_long] at e; omega) (fun X Q σ0 hl C E hQ hR hr hnm => ?_)
  subst hl
  rw [show lv_args 0 [rv g a0, rv g a1, .int (iI a2), .int (iI a3)] = [(0, rv g a0), (1, rv g a1), (2, .int (iI a2)), (3, .int (iI a3))] from by simp [lv_args, rv_cat, cat_int, cat_long]]
  show GJ X 4 (xWo g σ0 (cx_s X).heap) Q (x28_init a0 a1 a2 a3) 0 [(0, rv g a0), (1, rv g a1), (2, .int (iI a2)), (3, .int (iI a3))] []
  unfold x28_init
  refine gx_aload_n C dX28_init_0 0 rfl ?_
  refine gx_aload_n C dX28_init_1 1 rfl ?_
  refine gx_pR (O := "BorrowedLives$Alike") (nm := "this$0") (ds := "LBorrowedLives;") (fin := true) (ty := (.object "BorrowedLives")) C E dX28_init_2 (by decide +kernel) (Or.inl q1676) (fun _ h => h) (fun _ => ⟨hnm, rfl⟩) (by decide +kernel) (by decide) ?_
  refine gx_aload_n C dX28_init_5 0 rfl ?_
  refine gx_aload_n C dX28_init_6 1 rfl ?_
  refine gx_callINV (As := [rv g a1]) (rest := []) C E dX28_init_7 (mx22_init (cx_l X) g a0 a1) (lw_meth q1257) q164 q1671 q1256 rfl hyx_X22_init hR (Nat.le_of_ble_eq_true rfl) (by decide) rfl rfl (Nat.zero_le _) ?_
  refine gx_aload_n C dX28_init_10 0 rfl ?_
  refine gj_iload_n C dX28_init_11 2 rfl ?_
  refine gj_nrmI ?_
  refine gx_pI (O := "BorrowedLives$Alike") (nm := "life") (ds := "I") (fin := true) (ty := .int) C E dX28_init_12 (by decide +kernel) (Or.inl q1672) (fun _ h => h) (fun _ => ⟨hnm, rfl⟩) (by decide +kernel) (inty_int _) ?_
  refine gx_aload_n C dX28_init_15 0 rfl ?_
  refine gj_iload_n C dX28_init_16 3 rfl ?_
  refine gj_nrmI ?_
  refine gx_pI (O := "BorrowedLives$Alike") (nm := "day") (ds := "I") (fin := true) (ty := .int) C E dX28_init_17 (by decide +kernel) (Or.inl q1673) (fun _ h => h) (fun _ => ⟨hnm, rfl⟩) (by decide +kernel) (inty_int _) ?_
  exact gx_vret C hQ hr dX28_init_20
def x1_ask_j97 (a0 : Option Nat) (a1 a2 a3 a4 : Int) (bk9 : (Int × Int × Int) → PT Hp Int) (bk20 : (Int × Int × Int) → PT Hp Int) : PT Hp Int :=
  bk20 (a1, a2, a4 + 1)
def x1_ask_b30 (a0 : Option Nat) (a1 a2 a3 a4 : Int) (bk9 : (Int × Int × Int) → PT Hp Int) (bk20 : (Int × Int × Int) → PT Hp Int) (a5 : Int) (bk30 : (Int) → PT Hp Int) : PT Hp Int :=
  pite (9999 < w32 a5) (
    pbnd (xnew 24) fun v52 =>
    pbnd (xnn v52) fun _ =>
    pbnd (x28_init v52 a0 a3 a4) fun _ =>
    pbnd (xrecv a0 1) fun _ =>
    pbnd (x1_shows a0 v52) fun _ =>
    pbnd (xgI v52 24 4) fun v73 =>
    pite (w32 v73 < w32 a1) (
      pbnd (xgI v52 24 4) fun v85 =>
      plet (((a3 * 8)) + a4) fun x96 =>
      x1_ask_j97 a0 v85 x96 a3 a4 bk9 bk20) (
      x1_ask_j97 a0 a1 a2 a3 a4 bk9 bk20)) (
    pbnd (xgR a0 1 21) fun v39 =>
    pbnd (xst v39 40 a5 0) fun _ =>
    bk30 (a5 + 1))
def x1_ask_l30 (a0 : Option Nat) (a1 a2 a3 a4 a5 : Int) (bk9 : (Int × Int × Int) → PT Hp Int) (bk20 : (Int × Int × Int) → PT Hp Int) : PT Hp Int :=
  ploop (fun (s : (Int)) bk30 => x1_ask_b30 a0 a1 a2 a3 a4 bk9 bk20 s bk30) (a5)
def x1_ask_b20 (a0 : Option Nat) (a3 : Int) (bk9 : (Int × Int × Int) → PT Hp Int) (a1 a2 a4 : Int) (bk20 : (Int × Int × Int) → PT Hp Int) : PT Hp Int :=
  pite (7 < w32 a4) (
    bk9 (a1, a2, a3 + 1)) (
    x1_ask_l30 a0 a1 a2 a3 a4 0 bk9 bk20)
def x1_ask_l20 (a0 : Option Nat) (a1 a2 a3 a4 : Int) (bk9 : (Int × Int × Int) → PT Hp Int) : PT Hp Int :=
  ploop (fun (s : (Int × Int × Int)) bk20 => x1_ask_b20 a0 a3 bk9 s.1 s.2.1 s.2.2 bk20) (a1, a2, a4)
def x1_ask_b9 (a0 : Option Nat) (a1 a2 a3 : Int) (bk9 : (Int × Int × Int) → PT Hp Int) : PT Hp Int :=
  pbnd (xrecv a0 1) fun _ =>
  pbnd (x1_people a0) fun v11 =>
  pite (w32 a3 < w32 v11) (
    x1_ask_l20 a0 a1 a2 a3 1 bk9) (
    pret (w32 a2))
def x1_ask_l9 (a0 : Option Nat) (a1 a2 a3 : Int) : PT Hp Int :=
  ploop (fun (s : (Int × Int × Int)) bk9 => x1_ask_b9 a0 s.1 s.2.1 s.2.2 bk9) (a1, a2, a3)
def x1_ask (a0 : Option Nat) : PT Hp Int :=
  pbnd (xrecv a0 1) fun _ =>
  pbnd (x1_how a0) fun v1 =>
  x1_ask_l9 a0 v1 (-1) 0
set_option maxHeartbeats 4000000 in
set_option maxRecDepth 100000 in
theorem mx1_ask (l : Launch) (g : XG) (a0 : Option Nat) : XMet l g yX1_ask cX1_ask 6 (Option.some Jvm.ClassFile.FieldType.int) (719) [rv g a0] (x1_ask a0) rvI := by
  refine gx_start (by decide +kernel) (by have e := lg_sl_len [rv g a0]; simp only [List.map_cons, List.map_nil, List.sum_cons, List.sum_nil, rv_cat, cat_int, cat_long] at e; omega) (fun X Q σ0 hl C E hQ hR hr hnm => ?_)
  subst hl
  rw [show lv_args 0 [rv g a0] = [(0, rv g a0)] from by simp [lv_args, rv_cat, cat_int, cat_long]]
  show GJ X 6 (xWo g σ0 (cx_s X).heap) Q (x1_ask a0) 0 [(0, rv g a0)] []
  have J9 : ∀ (a0 : Option Nat) (a1 a2 a3 : Int), GJ X 6 (xWo g σ0 (cx_s X).heap) Q (x1_ask_l9 a0 a1 a2 a3) 9 [(0, rv g a0), (1, .int (iI a1)), (2, .int (iI a2)), (3, .int (iI a3))] [] := by
    intro a0 a1 a2 a3
    unfold x1_ask_l9
    refine gj_loop (fun (s : (Int × Int × Int)) => [(0, rv g a0), (1, .int (iI (s.1))), (2, .int (iI (s.2.1))), (3, .int (iI (s.2.2)))]) (a1, a2, a3) (fun bk9 hb9 s => ?_)
    obtain ⟨a1, a2, a3⟩ := s
    show GJ X 6 (xWo g σ0 (cx_s X).heap) Q (x1_ask_b9 a0 a1 a2 a3 bk9) 9 [(0, rv g a0), (1, .int (iI a1)), (2, .int (iI a2)), (3, .int (iI a3))] []
    have J20 : ∀ (a1 a2 a3 a4 : Int), GJ X 6 (xWo g σ0 (cx_s X).heap) Q (x1_ask_l20 a0 a1 a2 a3 a4 bk9) 20 [(0, rv g a0), (1, .int (iI a1)), (2, .int (iI a2)), (3, .int (iI a3)), (4, .int (iI a4))] [] := by
      intro a1 a2 a3 a4
      unfold x1_ask_l20
      refine gj_loop (fun (s : (Int × Int × Int)) => [(0, rv g a0), (1, .int (iI (s.1))), (2, .int (iI (s.2.1))), (3, .int (iI a3)), (4, .int (iI (s.2.2)))]) (a1, a2, a4) (fun bk20 hb20 s => ?_)
      obtain ⟨a1, a2, a4⟩ := s
      show GJ X 6 (xWo g σ0 (cx_s X).heap) Q (x1_ask_b20 a0 a3 bk9 a1 a2 a4 bk20) 20 [(0, rv g a0), (1, .int (iI a1)), (2, .int (iI a2)), (3, .int (iI a3)), (4, .int (iI a4))] []
      have J97 : ∀ (a1 a2 a4 : Int), GJ X 6 (xWo g σ0 (cx_s X).heap) Q (x1_ask_j97 a0 a1 a2 a3 a4 bk9 bk20) 97 [(0, rv g a0), (1, .int (iI a1)), (2, .int (iI a2)), (3, .int (iI a3)), (4, .int (iI a4))] [] := by
        intro a1 a2 a4
        unfold x1_ask_j97
        refine gj_iinc (L' := [(4, _), (0, _), (1, _), (2, _), (3, _)]) C dX1_ask_97 4 rfl (by decide) rfl ?_
        refine gj_goto (tgt := 20) C dX1_ask_100 (by decide) ?_
        exact gj_to [1, 2, 3, 4, 0] (hb20 (a1, a2, a4 + 1)) rfl
      have J30 : ∀ (a1 a2 a4 a5 : Int), GJ X 6 (xWo g σ0 (cx_s X).heap) Q (x1_ask_l30 a0 a1 a2 a3 a4 a5 bk9 bk20) 30 [(0, rv g a0), (1, .int (iI a1)), (2, .int (iI a2)), (3, .int (iI a3)), (4, .int (iI a4)), (5, .int (iI a5))] [] := by
        intro a1 a2 a4 a5
        unfold x1_ask_l30
        refine gj_loop (fun (s : (Int)) => [(0, rv g a0), (1, .int (iI a1)), (2, .int (iI a2)), (3, .int (iI a3)), (4, .int (iI a4)), (5, .int (iI s))]) (a5) (fun bk30 hb30 s => ?_)
        obtain ⟨a5, rfl⟩ : ∃ z, z = s := ⟨s, rfl⟩
        show GJ X 6 (xWo g σ0 (cx_s X).heap) Q (x1_ask_b30 a0 a1 a2 a3 a4 bk9 bk20 a5 bk30) 30 [(0, rv g a0), (1, .int (iI a1)), (2, .int (iI a2)), (3, .int (iI a3)), (4, .int (iI a4)), (5, .int (iI a5))] []
        unfold x1_ask_b30
        refine gj_iload C dX1_ask_30 5 rfl ?_
        refine gj_sipush C dX1_ask_32 rfl ?_
        refine gj_icmp_gt (tgt := 52) (b' := 9999) C dX1_ask_35 (by decide) rfl (by decide) (fun h35 => gj_pos h35 ?_) (fun h35 => gj_neg h35 ?_)
        · refine gx_new (t0 := 24) C E dX1_ask_52 rfl q1666 q1667 q172 (fun v52 => ?_)
          refine gx_dup C dX1_ask_55 ?_
          refine gx_aload_n C dX1_ask_56 0 rfl ?_
          refine gj_iload_n C dX1_ask_57 3 rfl ?_
          refine gj_iload C dX1_ask_58 4 rfl ?_
          refine gx_callIV (As := [rv g a0, .int (iI a3), .int (iI a4)]) (rest := [rv g v52]) C E dX1_ask_60 (mx28_init (cx_l X) g v52 a0 a3 a4) (lw_meth q1670) q172 q1668 q1669 rfl hyx_X28_init hR (Nat.le_of_ble_eq_true rfl) (by decide) rfl rfl (by simp only [List.map_cons, List.map_nil, List.sum_cons, List.sum_nil, rv_cat, cat_int, cat_long]; decide) ?_
          refine gx_astore (L' := [(5, _), (0, _), (1, _), (2, _), (3, _), (4, _)]) C dX1_ask_63 (by decide) rfl ?_
          refine gx_aload_n C dX1_ask_65 1 rfl ?_
          refine gx_aload C dX1_ask_66 0 rfl ?_
          refine gx_callVV (t0 := 1) (As := [rv g v52]) (rest := []) C E rfl dX1_ask_68 (mx1_shows (cx_l X) g a0 v52) (lw_V q1288 q1290 qs32 q125 q1291) hyx_X1_shows rfl hR (Nat.le_of_ble_eq_true rfl) (by decide) rfl rfl (Nat.zero_le _) ?_
          refine gx_aload C dX1_ask_71 0 rfl ?_
          refine gx_gI (O := "BorrowedLives$Alike") (nm := "most") (ds := "I") (fin := false) C E dX1_ask_73 (by decide +kernel) (Or.inr ⟨_, q1675⟩) (fun _ h => h) (fun v73 => ?_)
          refine gj_iload_n C dX1_ask_76 2 rfl ?_
          refine gj_icmp_lt (tgt := 83) C dX1_ask_77 (by decide) rfl rfl (fun h77 => gj_pos h77 ?_) (fun h77 => gj_neg h77 ?_)
          · refine gx_aload C dX1_ask_83 0 rfl ?_
            refine gx_gI (O := "BorrowedLives$Alike") (nm := "most") (ds := "I") (fin := false) C E dX1_ask_85 (by decide +kernel) (Or.inr ⟨_, q1675⟩) (fun _ h => h) (fun v85 => ?_)
            refine gj_istore_n (L' := [(1, .int (iI v85)), (5, rv g v52), (0, rv g a0), (2, .int (iI a2)), (3, .int (iI a3)), (4, .int (iI a4))]) C dX1_ask_88 (by decide) (by simp [List.filter, rv_cat, cat_int, cat_long, fin4_3]) ?_
            refine gj_iload_n C dX1_ask_89 4 rfl ?_
            refine gj_bipush C dX1_ask_90 rfl ?_
            refine gj_imul C dX1_ask_92 ?_
            refine gj_iload C dX1_ask_93 5 rfl ?_
            refine gj_iadd C dX1_ask_95 ?_
            refine gj_let (fun x96 => ?_)
            refine gj_istore_n (L' := [(2, _), (1, _), (5, _), (0, _), (3, _), (4, _)]) C dX1_ask_96 (by decide) rfl ?_
            exact gj_to [3, 1, 0, 4, 5] (J97 v85 x96 a4) rfl
          · refine gj_goto (tgt := 97) C dX1_ask_80 (by decide) ?_
            exact gj_to [1, 2, 3, 4, 5] (J97 a1 a2 a4) rfl
        · refine gx_aload_n C dX1_ask_38 0 rfl ?_
          refine gx_gR (O := "BorrowedLives") (nm := "like") (ds := "[I") (fin := true) C E dX1_ask_39 (by decide +kernel) (Or.inl q404) (fun _ h => h) (fun v39 => ?_)
          refine gj_iload C dX1_ask_42 5 rfl ?_
          refine gj_iconst C dX1_ask_44 ?_
          refine gx_iast C E dX1_ask_45 ?_
          refine gj_iinc (L' := [(5, _), (0, _), (1, _), (2, _), (3, _), (4, _)]) C dX1_ask_46 5 rfl (by decide) rfl ?_
          refine gj_goto (tgt := 30) C dX1_ask_49 (by decide) ?_
          exact gj_to [1, 2, 3, 4, 5, 0] (hb30 (a5 + 1)) rfl
      unfold x1_ask_b20
      refine gj_iload C dX1_ask_20 4 rfl ?_
      refine gj_bipush C dX1_ask_22 rfl ?_
      refine gj_icmp_gt (tgt := 103) (b' := 7) C dX1_ask_24 (by decide) rfl (by decide) (fun h24 => gj_pos h24 ?_) (fun h24 => gj_neg h24 ?_)
      · refine gj_iinc (L' := [(3, _), (0, _), (1, _), (2, _), (4, _)]) C dX1_ask_103 3 rfl (by decide) rfl ?_
        refine gj_goto (tgt := 9) C dX1_ask_106 (by decide) ?_
        exact gj_to [1, 2, 3, 0] (hb9 (a1, a2, a3 + 1)) rfl
      · refine gj_iconst C dX1_ask_27 ?_
        refine gj_istore (L' := [(5, _), (0, _), (1, _), (2, _), (3, _), (4, _)]) C dX1_ask_28 (by decide) rfl ?_
        exact gj_to [1, 2, 3, 4, 5, 0] (J30 a1 a2 a4 0) rfl
    unfold x1_ask_b9
    refine gj_iload_n C dX1_ask_9 3 rfl ?_
    refine gx_aload_n C dX1_ask_10 0 rfl ?_
    refine gx_callVI (t0 := 1) (As := []) (rest := [.int (iI a3)]) C E rfl dX1_ask_11 (mx1_people (cx_l X) g a0) (lw_V q1192 q1194 qs29 q125 q1195) hyx_X1_people rfl hR (Nat.le_of_ble_eq_true rfl) (by decide) rfl rfl (Nat.le_of_ble_eq_true rfl) (fun v11 => ?_)
    refine gj_icmp_ge (tgt := 109) C dX1_ask_14 (by decide) rfl rfl (fun h14 => gj_neg h14 ?_) (fun h14 => gj_pos h14 ?_)
    · refine gj_iload_n C dX1_ask_109 2 rfl ?_
      refine gj_nrmI ?_
      exact gx_iret C hQ hr dX1_ask_110
    · refine gj_iconst C dX1_ask_17 ?_
      refine gj_istore (L' := [(4, _), (0, _), (1, _), (2, _), (3, _)]) C dX1_ask_18 (by decide) rfl ?_
      exact gj_to [1, 2, 3, 4, 0] (J20 a1 a2 a3 1) rfl
  unfold x1_ask
  refine gx_aload_n C dX1_ask_0 0 rfl ?_
  refine gx_callVI (t0 := 1) (As := []) (rest := []) C E rfl dX1_ask_1 (mx1_how (cx_l X) g a0) (lw_V q1665 q1624 q1625 q125 q1626) hyx_X1_how rfl hR (Nat.le_of_ble_eq_true rfl) (by decide) rfl rfl (Nat.zero_le _) (fun v1 => ?_)
  refine gj_istore_n (L' := [(1, .int (iI v1)), (0, rv g a0)]) C dX1_ask_4 (by decide) (by simp [List.filter, rv_cat, cat_int, cat_long, fin4_3]) ?_
  refine gj_iconst C dX1_ask_5 ?_
  refine gj_istore_n (L' := [(2, _), (1, _), (0, _)]) C dX1_ask_6 (by decide) rfl ?_
  refine gj_iconst C dX1_ask_7 ?_
  refine gj_istore_n (L' := [(3, _), (2, _), (1, _), (0, _)]) C dX1_ask_8 (by decide) rfl ?_
  exact gj_to [3, 2, 1, 0] (J9 a0 v1 (-1) 0) rfl
def x4_goodOfAll_b4 (a0 : Option Nat) (a1 a2 : Int) (bk4 : (Int × Int) → PT Hp Int) : PT Hp Int :=
  pite (w32 a2 < 6) (
    pbnd (xrecv a0 4) fun _ =>
    pbnd (x4_goodOf a0 a2) fun v13 =>
    plet (a1 + v13) fun x17 =>
    bk4 (x17, a2 + 1)) (
    pret (w32 a1))
def x4_goodOfAll_l4 (a0 : Option Nat) (a1 a2 : Int) : PT Hp Int :=
  ploop (fun (s : (Int × Int)) bk4 => x4_goodOfAll_b4 a0 s.1 s.2 bk4) (a1, a2)
def x4_goodOfAll (a0 : Option Nat) : PT Hp Int :=
  x4_goodOfAll_l4 a0 0 0
set_option maxHeartbeats 4000000 in
set_option maxRecDepth 100000 in
theorem mx4_goodOfAll (l : Launch) (g : XG) (a0 : Option Nat) : XMet l g yX4_goodOfAll cX4_goodOfAll 3 (Option.some Jvm.ClassFile.FieldType.int) (2) [rv g a0] (x4_goodOfAll a0) rvI := by
  refine gx_start (by decide +kernel) (by have e := lg_sl_len [rv g a0]; simp only [List.map_cons, List.map_nil, List.sum_cons, List.sum_nil, rv_cat, cat_int, cat_long] at e; omega) (fun X Q σ0 hl C E hQ hR hr hnm => ?_)
  subst hl
  rw [show lv_args 0 [rv g a0] = [(0, rv g a0)] from by simp [lv_args, rv_cat, cat_int, cat_long]]
  show GJ X 3 (xWo g σ0 (cx_s X).heap) Q (x4_goodOfAll a0) 0 [(0, rv g a0)] []
  have J4 : ∀ (a0 : Option Nat) (a1 a2 : Int), GJ X 3 (xWo g σ0 (cx_s X).heap) Q (x4_goodOfAll_l4 a0 a1 a2) 4 [(0, rv g a0), (1, .int (iI a1)), (2, .int (iI a2))] [] := by
    intro a0 a1 a2
    unfold x4_goodOfAll_l4
    refine gj_loop (fun (s : (Int × Int)) => [(0, rv g a0), (1, .int (iI (s.1))), (2, .int (iI (s.2)))]) (a1, a2) (fun bk4 hb4 s => ?_)
    obtain ⟨a1, a2⟩ := s
    show GJ X 3 (xWo g σ0 (cx_s X).heap) Q (x4_goodOfAll_b4 a0 a1 a2 bk4) 4 [(0, rv g a0), (1, .int (iI a1)), (2, .int (iI a2))] []
    unfold x4_goodOfAll_b4
    refine gj_iload_n C dX4_goodOfAll_4 2 rfl ?_
    refine gj_bipush C dX4_goodOfAll_5 rfl ?_
    refine gj_icmp_ge (tgt := 24) (b' := 6) C dX4_goodOfAll_7 (by decide) rfl (by decide) (fun h7 => gj_neg h7 ?_) (fun h7 => gj_pos h7 ?_)
    · refine gj_iload_n C dX4_goodOfAll_24 1 rfl ?_
      refine gj_nrmI ?_
      exact gx_iret C hQ hr dX4_goodOfAll_25
    · refine gj_iload_n C dX4_goodOfAll_10 1 rfl ?_
      refine gx_aload_n C dX4_goodOfAll_11 0 rfl ?_
      refine gj_iload_n C dX4_goodOfAll_12 2 rfl ?_
      refine gx_callVI (t0 := 4) (As := [.int (iI a2)]) (rest := [.int (iI a1)]) C E rfl dX4_goodOfAll_13 (mx4_goodOf (cx_l X) g a0 a2) (lw_V q1696 q1234 q1235 q131 q1236) hyx_X4_goodOf rfl hR (Nat.le_of_ble_eq_true rfl) (by decide) rfl rfl (Nat.le_of_ble_eq_true rfl) (fun v13 => ?_)
      refine gj_iadd C dX4_goodOfAll_16 ?_
      refine gj_let (fun x17 => ?_)
      refine gj_istore_n (L' := [(1, .int (iI x17)), (0, rv g a0), (2, .int (iI a2))]) C dX4_goodOfAll_17 (by decide) (by simp [List.filter, rv_cat, cat_int, cat_long, fin4_3]) ?_
      refine gj_iinc (L' := [(2, _), (1, _), (0, _)]) C dX4_goodOfAll_18 2 rfl (by decide) rfl ?_
      refine gj_goto (tgt := 4) C dX4_goodOfAll_21 (by decide) ?_
      exact gj_to [2, 1, 0] (hb4 (x17, a2 + 1)) rfl
  unfold x4_goodOfAll
  refine gj_iconst C dX4_goodOfAll_0 ?_
  refine gj_istore_n (L' := [(1, .int (iI 0)), (0, rv g a0)]) C dX4_goodOfAll_1 (by decide) (by simp [List.filter, rv_cat, cat_int, cat_long, fin4_3]) ?_
  refine gj_iconst C dX4_goodOfAll_2 ?_
  refine gj_istore_n (L' := [(2, _), (1, _), (0, _)]) C dX4_goodOfAll_3 (by decide) rfl ?_
  exact gj_to [2, 1, 0] (J4 a0 0 0) rfl
def x1_sum_b4 (a0 : Option Nat) (a1 a2 : Int) (bk4 : (Int × Int) → PT Hp Int) : PT Hp Int :=
  pbnd (xlen a0) fun v6 =>
  pite (w32 a2 < w32 v6) (
    pbnd (xld a0 40 a2) fun v13 =>
    plet (a1 + v13) fun x15 =>
    bk4 (x15, a2 + 1)) (
    pret (w32 a1))
def x1_sum_l4 (a0 : Option Nat) (a1 a2 : Int) : PT Hp Int :=
  ploop (fun (s : (Int × Int)) bk4 => x1_sum_b4 a0 s.1 s.2 bk4) (a1, a2)
def x1_sum (a0 : Option Nat) : PT Hp Int :=
  x1_sum_l4 a0 0 0
set_option maxHeartbeats 4000000 in
set_option maxRecDepth 100000 in
theorem mx1_sum (l : Launch) (g : XG) (a0 : Option Nat) : XMet l g yX1_sum cX1_sum 3 (Option.some Jvm.ClassFile.FieldType.int) (0) [rv g a0] (x1_sum a0) rvI := by
  refine gx_start (by decide +kernel) (by have e := lg_sl_len [rv g a0]; simp only [List.map_cons, List.map_nil, List.sum_cons, List.sum_nil, rv_cat, cat_int, cat_long] at e; omega) (fun X Q σ0 hl C E hQ hR hr hnm => ?_)
  subst hl
  rw [show lv_args 0 [rv g a0] = [(0, rv g a0)] from by simp [lv_args, rv_cat, cat_int, cat_long]]
  show GJ X 3 (xWo g σ0 (cx_s X).heap) Q (x1_sum a0) 0 [(0, rv g a0)] []
  have J4 : ∀ (a0 : Option Nat) (a1 a2 : Int), GJ X 3 (xWo g σ0 (cx_s X).heap) Q (x1_sum_l4 a0 a1 a2) 4 [(0, rv g a0), (1, .int (iI a1)), (2, .int (iI a2))] [] := by
    intro a0 a1 a2
    unfold x1_sum_l4
    refine gj_loop (fun (s : (Int × Int)) => [(0, rv g a0), (1, .int (iI (s.1))), (2, .int (iI (s.2)))]) (a1, a2) (fun bk4 hb4 s => ?_)
    obtain ⟨a1, a2⟩ := s
    show GJ X 3 (xWo g σ0 (cx_s X).heap) Q (x1_sum_b4 a0 a1 a2 bk4) 4 [(0, rv g a0), (1, .int (iI a1)), (2, .int (iI a2))] []
    unfold x1_sum_b4
    refine gj_iload_n C dX1_sum_4 2 rfl ?_
    refine gx_aload_n C dX1_sum_5 0 rfl ?_
    refine gx_len C E dX1_sum_6 (fun v6 => ?_)
    refine gj_icmp_ge (tgt := 22) C dX1_sum_7 (by decide) rfl rfl (fun h7 => gj_neg h7 ?_) (fun h7 => gj_pos h7 ?_)
    · refine gj_iload_n C dX1_sum_22 1 rfl ?_
      refine gj_nrmI ?_
      exact gx_iret C hQ hr dX1_sum_23
    · refine gj_iload_n C dX1_sum_10 1 rfl ?_
      refine gx_aload_n C dX1_sum_11 0 rfl ?_
      refine gj_iload_n C dX1_sum_12 2 rfl ?_
      refine gx_iald C E dX1_sum_13 (fun v13 => ?_)
      refine gj_iadd C dX1_sum_14 ?_
      refine gj_let (fun x15 => ?_)
      refine gj_istore_n (L' := [(1, .int (iI x15)), (0, rv g a0), (2, .int (iI a2))]) C dX1_sum_15 (by decide) (by simp [List.filter, rv_cat, cat_int, cat_long, fin4_3]) ?_
      refine gj_iinc (L' := [(2, _), (1, _), (0, _)]) C dX1_sum_16 2 rfl (by decide) rfl ?_
      refine gj_goto (tgt := 4) C dX1_sum_19 (by decide) ?_
      exact gj_to [2, 1, 0] (hb4 (x15, a2 + 1)) rfl
  unfold x1_sum
  refine gj_iconst C dX1_sum_0 ?_
  refine gj_istore_n (L' := [(1, .int (iI 0)), (0, rv g a0)]) C dX1_sum_1 (by decide) (by simp [List.filter, rv_cat, cat_int, cat_long, fin4_3]) ?_
  refine gj_iconst C dX1_sum_2 ?_
  refine gj_istore_n (L' := [(2, _), (1, _), (0, _)]) C dX1_sum_3 (by decide) rfl ?_
  exact gj_to [2, 1, 0] (J4 a0 0 0) rfl
def x1_years_j201 (a0 : Option Nat) (a2 a3 a4 a5 a6 : Int) (bk75 : (Int × Int × Int) → PT Hp Int) : PT Hp Int :=
  pbnd (xgR a0 1 5) fun v202 =>
  pbnd (xrecv v202 4) fun _ =>
  pbnd (x4_allAreHome v202) fun _ =>
  bk75 (a4, a5, a6 + 1)
def x1_years_b148 (a0 : Option Nat) (a2 a3 a4 a5 a6 : Int) (bk75 : (Int × Int × Int) → PT Hp Int) (a7 : Int) (bk148 : (Int) → PT Hp Int) : PT Hp Int :=
  pite (w32 a7 < 7) (
    pbnd (xgR a0 1 5) fun v157 =>
    pbnd (xgR a0 1 2) fun v161 =>
    pbnd (xrecv v161 3) fun _ =>
    pbnd (x3_sign v161) fun v164 =>
    pbnd (xrecv a0 1) fun _ =>
    pbnd (x1_passes a0 v157 v164) fun _ =>
    bk148 (a7 + 1)) (
    pbnd (xgR a0 1 5) fun v179 =>
    pbnd (xrecv v179 4) fun _ =>
    pbnd (x4_goodOfAll v179) fun v182 =>
    plet (a5 + v182) fun x186 =>
    pbnd (xgR a0 1 5) fun v192 =>
    pbnd (xrecv a0 1) fun _ =>
    pbnd (x1_comesHome a0 v192) fun v195 =>
    plet (a4 + v195) fun x199 =>
    x1_years_j201 a0 a2 a3 x199 x186 a6 bk75)
def x1_years_l148 (a0 : Option Nat) (a2 a3 a4 a5 a6 a7 : Int) (bk75 : (Int × Int × Int) → PT Hp Int) : PT Hp Int :=
  ploop (fun (s : (Int)) bk148 => x1_years_b148 a0 a2 a3 a4 a5 a6 bk75 s bk148) (a7)
def x1_years_j128 (a0 : Option Nat) (a2 a3 a4 a5 a6 a7 : Int) (bk75 : (Int × Int × Int) → PT Hp Int) (bk84 : (Int) → PT Hp Int) : PT Hp Int :=
  bk84 (a7 + 1)
def x1_years_b84 (a0 : Option Nat) (a2 a3 a4 a5 a6 : Int) (bk75 : (Int × Int × Int) → PT Hp Int) (a7 : Int) (bk84 : (Int) → PT Hp Int) : PT Hp Int :=
  pbnd (xrecv a0 1) fun _ =>
  pbnd (x1_people a0) fun v87 =>
  pite (w32 a7 < w32 v87) (
    pbnd (xrecv a0 1) fun _ =>
    pbnd (x1_draws a0 3) fun v95 =>
    pite (w32 v95 = 0) (
      pbnd (xgR a0 1 5) fun v102 =>
      pbnd (xgR v102 4 0) fun v105 =>
      pbnd (xld v105 40 a7) fun v110 =>
      pite (w32 v110 < 20) (
        x1_years_j128 a0 a2 a3 a4 a5 a6 a7 bk75 bk84) (
        pbnd (xgR a0 1 5) fun v117 =>
        pbnd (xgR v117 4 3) fun v120 =>
        pbnd (xst v120 40 a7 20) fun _ =>
        x1_years_j128 a0 a2 a3 a4 a5 a6 a7 bk75 bk84)) (
      x1_years_j128 a0 a2 a3 a4 a5 a6 a7 bk75 bk84)) (
    pbnd (xgR a0 1 5) fun v136 =>
    pbnd (xrecv a0 1) fun _ =>
    pbnd (x1_drawsLot a0 v136) fun v139 =>
    pite (w32 v139 < 0) (
      x1_years_j201 a0 a2 a3 a4 a5 a6 bk75) (
      x1_years_l148 a0 a2 a3 a4 a5 a6 0 bk75))
def x1_years_l84 (a0 : Option Nat) (a2 a3 a4 a5 a6 a7 : Int) (bk75 : (Int × Int × Int) → PT Hp Int) : PT Hp Int :=
  ploop (fun (s : (Int)) bk84 => x1_years_b84 a0 a2 a3 a4 a5 a6 bk75 s bk84) (a7)
def x1_years_b75 (a0 : Option Nat) (a2 a3 : Int) (a4 a5 a6 : Int) (bk75 : (Int × Int × Int) → PT Hp Int) : PT Hp Int :=
  pite (w32 a6 < w32 a2) (
    x1_years_l84 a0 a2 a3 a4 a5 a6 0 bk75) (
    pite (w32 a3 = 0) (
      pret (w32 a4)) (
      pite (w32 a3 = 1) (
        pret (w32 a5)) (
        pbnd (xgR a0 1 5) fun v234 =>
        pbnd (xgR v234 4 0) fun v237 =>
        pbnd (x1_sum v237) fun v240 =>
        pret v240)))
def x1_years_l75 (a0 : Option Nat) (a2 a3 a4 a5 a6 : Int) : PT Hp Int :=
  ploop (fun (s : (Int × Int × Int)) bk75 => x1_years_b75 a0 a2 a3 s.1 s.2.1 s.2.2 bk75) (a4, a5, a6)
def x1_years_j66 (a0 : Option Nat) (a2 a3 : Int) : PT Hp Int :=
  x1_years_l75 a0 a2 a3 0 0 0
def x1_years (a0 : Option Nat) (a1 a2 a3 : Int) : PT Hp Int :=
  pbnd (x1_in a1 0 9999) fun v5 =>
  pite (w32 v5 = 0) (
    pret (-1)) (
    pbnd (x1_in a2 1 20) fun v15 =>
    pite (w32 v15 = 0) (
      pret (-1)) (
      pbnd (x1_in a3 0 2) fun v24 =>
      pite (w32 v24 = 0) (
        pret (-1)) (
        pbnd (xpI a0 1 12 (w64 (zi2l a1))) fun _ =>
        pbnd (xgR a0 1 5) fun v39 =>
        pbnd (xgR a0 1 4) fun v43 =>
        pbnd (xrecv v39 4) fun _ =>
        pbnd (x4_be v39 v43) fun _ =>
        pbnd (xgR a0 1 5) fun v50 =>
        pbnd (xgI v50 4 7) fun v53 =>
        pite (w32 v53 = 0) (
          x1_years_j66 a0 a2 a3) (
          pbnd (xgR a0 1 5) fun v60 =>
          pbnd (xrecv v60 4) fun _ =>
          pbnd (x4_allAreHome v60) fun _ =>
          x1_years_j66 a0 a2 a3))))
set_option maxHeartbeats 4000000 in
set_option maxRecDepth 100000 in
theorem mx1_years (l : Launch) (g : XG) (a0 : Option Nat) (a1 a2 a3 : Int) : XMet l g yX1_years cX1_years 8 (Option.some Jvm.ClassFile.FieldType.int) (720) [rv g a0, .int (iI a1), .int (iI a2), .int (iI a3)] (x1_years a0 a1 a2 a3) rvI := by
  refine gx_start (by decide +kernel) (by have e := lg_sl_len [rv g a0, .int (iI a1), .int (iI a2), .int (iI a3)]; simp only [List.map_cons, List.map_nil, List.sum_cons, List.sum_nil, rv_cat, cat_int, cat_long] at e; omega) (fun X Q σ0 hl C E hQ hR hr hnm => ?_)
  subst hl
  rw [show lv_args 0 [rv g a0, .int (iI a1), .int (iI a2), .int (iI a3)] = [(0, rv g a0), (1, .int (iI a1)), (2, .int (iI a2)), (3, .int (iI a3))] from by simp [lv_args, rv_cat, cat_int, cat_long]]
  show GJ X 8 (xWo g σ0 (cx_s X).heap) Q (x1_years a0 a1 a2 a3) 0 [(0, rv g a0), (1, .int (iI a1)), (2, .int (iI a2)), (3, .int (iI a3))] []
  have J75 : ∀ (a0 : Option Nat) (a2 a3 a4 a5 a6 : Int), GJ X 8 (xWo g σ0 (cx_s X).heap) Q (x1_years_l75 a0 a2 a3 a4 a5 a6) 75 [(0, rv g a0), (2, .int (iI a2)), (3, .int (iI a3)), (4, .int (iI a4)), (5, .int (iI a5)), (6, .int (iI a6))] [] := by
    intro a0 a2 a3 a4 a5 a6
    unfold x1_years_l75
    refine gj_loop (fun (s : (Int × Int × Int)) => [(0, rv g a0), (2, .int (iI a2)), (3, .int (iI a3)), (4, .int (iI (s.1))), (5, .int (iI (s.2.1))), (6, .int (iI (s.2.2)))]) (a4, a5, a6) (fun bk75 hb75 s => ?_)
    obtain ⟨a4, a5, a6⟩ := s
    show GJ X 8 (xWo g σ0 (cx_s X).heap) Q (x1_years_b75 a0 a2 a3 a4 a5 a6 bk75) 75 [(0, rv g a0), (2, .int (iI a2)), (3, .int (iI a3)), (4, .int (iI a4)), (5, .int (iI a5)), (6, .int (iI a6))] []
    have J201 : ∀ (a4 a5 a6 : Int), GJ X 8 (xWo g σ0 (cx_s X).heap) Q (x1_years_j201 a0 a2 a3 a4 a5 a6 bk75) 201 [(0, rv g a0), (2, .int (iI a2)), (3, .int (iI a3)), (4, .int (iI a4)), (5, .int (iI a5)), (6, .int (iI a6))] [] := by
      intro a4 a5 a6
      unfold x1_years_j201
      refine gx_aload_n C dX1_years_201 0 rfl ?_
      refine gx_gR (O := "BorrowedLives") (nm := "trial") (ds := "LBorrowedLives$State;") (fin := true) C E dX1_years_202 (by decide +kernel) (Or.inl q382) (fun _ h => h) (fun v202 => ?_)
      refine gx_callVV (t0 := 4) (As := []) (rest := []) C E rfl dX1_years_205 (mx4_allAreHome (cx_l X) g v202) (lw_V q1514 q370 q371 q131 q372) hyx_X4_allAreHome rfl hR (Nat.le_of_ble_eq_true rfl) (by decide) rfl rfl (Nat.zero_le _) ?_
      refine gj_iinc (L' := [(6, _), (0, _), (2, _), (3, _), (4, _), (5, _)]) C dX1_years_208 5 rfl (by decide) rfl ?_
      refine gj_goto (tgt := 75) C dX1_years_211 (by decide) ?_
      exact gj_to [1, 2, 3, 4, 5, 0] (hb75 (a4, a5, a6 + 1)) rfl
    have J148 : ∀ (a4 a5 a6 a7 : Int), GJ X 8 (xWo g σ0 (cx_s X).heap) Q (x1_years_l148 a0 a2 a3 a4 a5 a6 a7 bk75) 148 [(0, rv g a0), (2, .int (iI a2)), (3, .int (iI a3)), (4, .int (iI a4)), (5, .int (iI a5)), (6, .int (iI a6)), (7, .int (iI a7))] [] := by
      intro a4 a5 a6 a7
      unfold x1_years_l148
      refine gj_loop (fun (s : (Int)) => [(0, rv g a0), (2, .int (iI a2)), (3, .int (iI a3)), (4, .int (iI a4)), (5, .int (iI a5)), (6, .int (iI a6)), (7, .int (iI s))]) (a7) (fun bk148 hb148 s => ?_)
      obtain ⟨a7, rfl⟩ : ∃ z, z = s := ⟨s, rfl⟩
      show GJ X 8 (xWo g σ0 (cx_s X).heap) Q (x1_years_b148 a0 a2 a3 a4 a5 a6 bk75 a7 bk148) 148 [(0, rv g a0), (2, .int (iI a2)), (3, .int (iI a3)), (4, .int (iI a4)), (5, .int (iI a5)), (6, .int (iI a6)), (7, .int (iI a7))] []
      unfold x1_years_b148
      refine gj_iload C dX1_years_148 6 rfl ?_
      refine gj_bipush C dX1_years_150 rfl ?_
      refine gj_icmp_ge (tgt := 176) (b' := 7) C dX1_years_152 (by decide) rfl (by decide) (fun h152 => gj_neg h152 ?_) (fun h152 => gj_pos h152 ?_)
      · refine gj_iload C dX1_years_176 4 rfl ?_
        refine gx_aload_n C dX1_years_178 0 rfl ?_
        refine gx_gR (O := "BorrowedLives") (nm := "trial") (ds := "LBorrowedLives$State;") (fin := true) C E dX1_years_179 (by decide +kernel) (Or.inl q382) (fun _ h => h) (fun v179 => ?_)
        refine gx_callVI (t0 := 4) (As := []) (rest := [.int (iI a5)]) C E rfl dX1_years_182 (mx4_goodOfAll (cx_l X) g v179) (lw_V q1692 q1693 q1694 q131 q1695) hyx_X4_goodOfAll rfl hR (Nat.le_of_ble_eq_true rfl) (by decide) rfl rfl (Nat.le_of_ble_eq_true rfl) (fun v182 => ?_)
        refine gj_iadd C dX1_years_185 ?_
        refine gj_let (fun x186 => ?_)
        refine gj_istore (L' := [(5, _), (0, _), (2, _), (3, _), (4, _), (6, _), (7, _)]) C dX1_years_186 (by decide) rfl ?_
        refine gj_iload C dX1_years_188 4 rfl ?_
        refine gx_aload_n C dX1_years_190 1 rfl ?_
        refine gx_aload_n C dX1_years_191 1 rfl ?_
        refine gx_gR (O := "BorrowedLives") (nm := "trial") (ds := "LBorrowedLives$State;") (fin := true) C E dX1_years_192 (by decide +kernel) (Or.inl q382) (fun _ h => h) (fun v192 => ?_)
        refine gx_callVI (t0 := 1) (As := [rv g v192]) (rest := [.int (iI a4)]) C E rfl dX1_years_195 (mx1_comesHome (cx_l X) g a0 v192) (lw_V q1509 q1511 qs45 q125 q1512) hyx_X1_comesHome rfl hR (Nat.le_of_ble_eq_true rfl) (by decide) rfl rfl (Nat.le_of_ble_eq_true rfl) (fun v195 => ?_)
        refine gj_iadd C dX1_years_198 ?_
        refine gj_let (fun x199 => ?_)
        refine gj_istore (L' := [(4, _), (5, _), (0, _), (2, _), (3, _), (6, _), (7, _)]) C dX1_years_199 (by decide) rfl ?_
        exact gj_to [2, 3, 4, 0, 1, 5] (J201 x199 x186 a6) rfl
      · refine gx_aload_n C dX1_years_155 0 rfl ?_
        refine gx_aload_n C dX1_years_156 0 rfl ?_
        refine gx_gR (O := "BorrowedLives") (nm := "trial") (ds := "LBorrowedLives$State;") (fin := true) C E dX1_years_157 (by decide +kernel) (Or.inl q382) (fun _ h => h) (fun v157 => ?_)
        refine gx_aload_n C dX1_years_160 0 rfl ?_
        refine gx_gR (O := "BorrowedLives") (nm := "town") (ds := "LBorrowedLives$Town;") (fin := false) C E dX1_years_161 (by decide +kernel) (Or.inl q377) (fun _ h => h) (fun v161 => ?_)
        refine gx_callVI (t0 := 3) (As := []) (rest := [rv g v157, rv g a0]) C E rfl dX1_years_164 (mx3_sign (cx_l X) g v161) (lw_V q1317 q1318 q1319 q127 q1320) hyx_X3_sign rfl hR (Nat.le_of_ble_eq_true rfl) (by decide) rfl rfl (by simp only [List.map_cons, List.map_nil, List.sum_cons, List.sum_nil, rv_cat, cat_int, cat_long]; decide) (fun v164 => ?_)
        refine gx_callVV (t0 := 1) (As := [rv g v157, .int (iI v164)]) (rest := []) C E rfl dX1_years_167 (mx1_passes (cx_l X) g a0 v157 v164) (lw_V q1321 q1323 qs35 q125 q1324) hyx_X1_passes rfl hR (Nat.le_of_ble_eq_true rfl) (by decide) rfl rfl (Nat.zero_le _) ?_
        refine gj_iinc (L' := [(7, _), (0, _), (2, _), (3, _), (4, _), (5, _), (6, _)]) C dX1_years_170 6 rfl (by decide) rfl ?_
        refine gj_goto (tgt := 148) C dX1_years_173 (by decide) ?_
        exact gj_to [1, 2, 3, 4, 5, 6, 0] (hb148 (a7 + 1)) rfl
    have J84 : ∀ (a4 a5 a6 a7 : Int), GJ X 8 (xWo g σ0 (cx_s X).heap) Q (x1_years_l84 a0 a2 a3 a4 a5 a6 a7 bk75) 84 [(0, rv g a0), (2, .int (iI a2)), (3, .int (iI a3)), (4, .int (iI a4)), (5, .int (iI a5)), (6, .int (iI a6)), (7, .int (iI a7))] [] := by
      intro a4 a5 a6 a7
      unfold x1_years_l84
      refine gj_loop (fun (s : (Int)) => [(0, rv g a0), (2, .int (iI a2)), (3, .int (iI a3)), (4, .int (iI a4)), (5, .int (iI a5)), (6, .int (iI a6)), (7, .int (iI s))]) (a7) (fun bk84 hb84 s => ?_)
      obtain ⟨a7, rfl⟩ : ∃ z, z = s := ⟨s, rfl⟩
      show GJ X 8 (xWo g σ0 (cx_s X).heap) Q (x1_years_b84 a0 a2 a3 a4 a5 a6 bk75 a7 bk84) 84 [(0, rv g a0), (2, .int (iI a2)), (3, .int (iI a3)), (4, .int (iI a4)), (5, .int (iI a5)), (6, .int (iI a6)), (7, .int (iI a7))] []
      have J128 : ∀ (a7 : Int), GJ X 8 (xWo g σ0 (cx_s X).heap) Q (x1_years_j128 a0 a2 a3 a4 a5 a6 a7 bk75 bk84) 128 [(0, rv g a0), (2, .int (iI a2)), (3, .int (iI a3)), (4, .int (iI a4)), (5, .int (iI a5)), (6, .int (iI a6)), (7, .int (iI a7))] [] := by
        intro a7
        unfold x1_years_j128
        refine gj_iinc (L' := [(7, _), (0, _), (2, _), (3, _), (4, _), (5, _), (6, _)]) C dX1_years_128 6 rfl (by decide) rfl ?_
        refine gj_goto (tgt := 84) C dX1_years_131 (by decide) ?_
        exact gj_to [1, 2, 3, 4, 5, 6, 0] (hb84 (a7 + 1)) rfl
      unfold x1_years_b84
      refine gj_iload C dX1_years_84 6 rfl ?_
      refine gx_aload_n C dX1_years_86 0 rfl ?_
      refine gx_callVI (t0 := 1) (As := []) (rest := [.int (iI a7)]) C E rfl dX1_years_87 (mx1_people (cx_l X) g a0) (lw_V q1192 q1194 qs29 q125 q1195) hyx_X1_people rfl hR (Nat.le_of_ble_eq_true rfl) (by decide) rfl rfl (Nat.le_of_ble_eq_true rfl) (fun v87 => ?_)
      refine gj_icmp_ge (tgt := 134) C dX1_years_90 (by decide) rfl rfl (fun h90 => gj_neg h90 ?_) (fun h90 => gj_pos h90 ?_)
      · refine gx_aload_n C dX1_years_134 0 rfl ?_
        refine gx_aload_n C dX1_years_135 0 rfl ?_
        refine gx_gR (O := "BorrowedLives") (nm := "trial") (ds := "LBorrowedLives$State;") (fin := true) C E dX1_years_136 (by decide +kernel) (Or.inl q382) (fun _ h => h) (fun v136 => ?_)
        refine gx_callVI (t0 := 1) (As := [rv g v136]) (rest := []) C E rfl dX1_years_139 (mx1_drawsLot (cx_l X) g a0 v136) (lw_V q1457 q1459 qs41 q125 q1460) hyx_X1_drawsLot rfl hR (Nat.le_of_ble_eq_true rfl) (by decide) rfl rfl (Nat.zero_le _) (fun v139 => ?_)
        refine gj_if_lt (tgt := 201) C dX1_years_142 (by decide) (fun h142 => gj_pos h142 ?_) (fun h142 => gj_neg h142 ?_)
        · exact gj_to [0, 1, 2, 3, 4, 5] (J201 a4 a5 a6) rfl
        · refine gj_iconst C dX1_years_145 ?_
          refine gj_istore (L' := [(7, _), (0, _), (2, _), (3, _), (4, _), (5, _), (6, _)]) C dX1_years_146 (by decide) rfl ?_
          exact gj_to [1, 2, 3, 4, 5, 6, 0] (J148 a4 a5 a6 0) rfl
      · refine gx_aload_n C dX1_years_93 0 rfl ?_
        refine gj_iconst C dX1_years_94 ?_
        refine gx_callVI (t0 := 1) (As := [.int (iI 3)]) (rest := []) C E rfl dX1_years_95 (mx1_draws (cx_l X) g a0 3) (lw_V q1463 q1465 qs42 q125 q1466) hyx_X1_draws rfl hR (Nat.le_of_ble_eq_true rfl) (by decide) rfl rfl (Nat.zero_le _) (fun v95 => ?_)
        refine gj_if_ne (tgt := 128) C dX1_years_98 (by decide) (fun h98 => gj_neg h98 ?_) (fun h98 => gj_pos h98 ?_)
        · exact gj_to [0, 1, 2, 3, 4, 5, 6] (J128 a7) rfl
        · refine gx_aload_n C dX1_years_101 0 rfl ?_
          refine gx_gR (O := "BorrowedLives") (nm := "trial") (ds := "LBorrowedLives$State;") (fin := true) C E dX1_years_102 (by decide +kernel) (Or.inl q382) (fun _ h => h) (fun v102 => ?_)
          refine gx_gR (O := "BorrowedLives$State") (nm := "purse") (ds := "[I") (fin := true) C E dX1_years_105 (by decide +kernel) (Or.inr ⟨_, q292⟩) (fun _ h => h) (fun v105 => ?_)
          refine gj_iload C dX1_years_108 6 rfl ?_
          refine gx_iald C E dX1_years_110 (fun v110 => ?_)
          refine gj_bipush C dX1_years_111 rfl ?_
          refine gj_icmp_lt (tgt := 128) (b' := 20) C dX1_years_113 (by decide) rfl (by decide) (fun h113 => gj_pos h113 ?_) (fun h113 => gj_neg h113 ?_)
          · exact gj_to [0, 1, 2, 3, 4, 5, 6] (J128 a7) rfl
          · refine gx_aload_n C dX1_years_116 0 rfl ?_
            refine gx_gR (O := "BorrowedLives") (nm := "trial") (ds := "LBorrowedLives$State;") (fin := true) C E dX1_years_117 (by decide +kernel) (Or.inl q382) (fun _ h => h) (fun v117 => ?_)
            refine gx_gR (O := "BorrowedLives$State") (nm := "hidden") (ds := "[I") (fin := true) C E dX1_years_120 (by decide +kernel) (Or.inr ⟨_, q299⟩) (fun _ h => h) (fun v120 => ?_)
            refine gj_iload C dX1_years_123 6 rfl ?_
            refine gj_bipush C dX1_years_125 rfl ?_
            refine gx_iast C E dX1_years_127 ?_
            exact gj_to [0, 1, 2, 3, 4, 5, 6] (J128 a7) rfl
    unfold x1_years_b75
    refine gj_iload C dX1_years_75 5 rfl ?_
    refine gj_iload_n C dX1_years_77 1 rfl ?_
    refine gj_icmp_ge (tgt := 214) C dX1_years_78 (by decide) rfl rfl (fun h78 => gj_neg h78 ?_) (fun h78 => gj_pos h78 ?_)
    · refine gj_iload_n C dX1_years_214 2 rfl ?_
      refine gj_if_ne (tgt := 223) C dX1_years_215 (by decide) (fun h215 => gj_neg h215 ?_) (fun h215 => gj_pos h215 ?_)
      · refine gj_iload_n C dX1_years_223 2 rfl ?_
        refine gj_iconst C dX1_years_224 ?_
        refine gj_icmp_ne (tgt := 233) (b' := 1) C dX1_years_225 (by decide) rfl (by decide) (fun h225 => gj_neg h225 ?_) (fun h225 => gj_pos h225 ?_)
        · refine gx_aload_n C dX1_years_233 0 rfl ?_
          refine gx_gR (O := "BorrowedLives") (nm := "trial") (ds := "LBorrowedLives$State;") (fin := true) C E dX1_years_234 (by decide +kernel) (Or.inl q382) (fun _ h => h) (fun v234 => ?_)
          refine gx_gR (O := "BorrowedLives$State") (nm := "purse") (ds := "[I") (fin := true) C E dX1_years_237 (by decide +kernel) (Or.inr ⟨_, q292⟩) (fun _ h => h) (fun v237 => ?_)
          refine gx_callSI (As := [rv g v237]) (rest := []) C E dX1_years_240 (mx1_sum (cx_l X) g v237) (lw_S q1697 q1698 q125 q1699) hyx_X1_sum hR (Nat.le_of_ble_eq_true rfl) (by decide) rfl rfl (Nat.zero_le _) (fun v240 => ?_)
          exact gx_iret C hQ hr dX1_years_243
        · refine gj_iload C dX1_years_228 4 rfl ?_
          refine gj_goto (tgt := 243) C dX1_years_230 (by decide) ?_
          refine gj_nrmI ?_
          exact gx_iret C hQ hr dX1_years_243
      · refine gj_iload C dX1_years_218 3 rfl ?_
        refine gj_goto (tgt := 243) C dX1_years_220 (by decide) ?_
        refine gj_nrmI ?_
        exact gx_iret C hQ hr dX1_years_243
    · refine gj_iconst C dX1_years_81 ?_
      refine gj_istore (L' := [(7, _), (0, _), (2, _), (3, _), (4, _), (5, _), (6, _)]) C dX1_years_82 (by decide) rfl ?_
      exact gj_to [1, 2, 3, 4, 5, 6, 0] (J84 a4 a5 a6 0) rfl
  have J66 : ∀ (a0 : Option Nat) (a2 a3 : Int), GJ X 8 (xWo g σ0 (cx_s X).heap) Q (x1_years_j66 a0 a2 a3) 66 [(0, rv g a0), (2, .int (iI a2)), (3, .int (iI a3))] [] := by
    intro a0 a2 a3
    unfold x1_years_j66
    refine gj_iconst C dX1_years_66 ?_
    refine gj_istore (L' := [(4, _), (0, _), (2, _), (3, _)]) C dX1_years_67 (by decide) rfl ?_
    refine gj_iconst C dX1_years_69 ?_
    refine gj_istore (L' := [(5, _), (4, _), (0, _), (2, _), (3, _)]) C dX1_years_70 (by decide) rfl ?_
    refine gj_iconst C dX1_years_72 ?_
    refine gj_istore (L' := [(6, _), (5, _), (4, _), (0, _), (2, _), (3, _)]) C dX1_years_73 (by decide) rfl ?_
    exact gj_to [3, 4, 5, 2, 1, 0] (J75 a0 a2 a3 0 0 0) rfl
  unfold x1_years
  refine gj_iload_n C dX1_years_0 1 rfl ?_
  refine gj_iconst C dX1_years_1 ?_
  refine gj_sipush C dX1_years_2 rfl ?_
  refine gx_callSI (As := [.int (iI a1), .int (iI 0), .int (iI 9999)]) (rest := []) C E dX1_years_5 (mx1_in (cx_l X) g a1 0 9999) (lw_S q1197 q1198 q125 q1199) hyx_X1_in hR (Nat.le_of_ble_eq_true rfl) (by decide) rfl rfl (Nat.zero_le _) (fun v5 => ?_)
  refine gj_if_eq (tgt := 30) C dX1_years_8 (by decide) (fun h8 => gj_pos h8 ?_) (fun h8 => gj_neg h8 ?_)
  · refine gj_iconst C dX1_years_30 ?_
    exact gx_iret C hQ hr dX1_years_31
  · refine gj_iload_n C dX1_years_11 2 rfl ?_
    refine gj_iconst C dX1_years_12 ?_
    refine gj_bipush C dX1_years_13 rfl ?_
    refine gx_callSI (As := [.int (iI a2), .int (iI 1), .int (iI 20)]) (rest := []) C E dX1_years_15 (mx1_in (cx_l X) g a2 1 20) (lw_S q1197 q1198 q125 q1199) hyx_X1_in hR (Nat.le_of_ble_eq_true rfl) (by decide) rfl rfl (Nat.zero_le _) (fun v15 => ?_)
    refine gj_if_eq (tgt := 30) C dX1_years_18 (by decide) (fun h18 => gj_pos h18 ?_) (fun h18 => gj_neg h18 ?_)
    · refine gj_iconst C dX1_years_30 ?_
      exact gx_iret C hQ hr dX1_years_31
    · refine gj_iload_n C dX1_years_21 3 rfl ?_
      refine gj_iconst C dX1_years_22 ?_
      refine gj_iconst C dX1_years_23 ?_
      refine gx_callSI (As := [.int (iI a3), .int (iI 0), .int (iI 2)]) (rest := []) C E dX1_years_24 (mx1_in (cx_l X) g a3 0 2) (lw_S q1197 q1198 q125 q1199) hyx_X1_in hR (Nat.le_of_ble_eq_true rfl) (by decide) rfl rfl (Nat.zero_le _) (fun v24 => ?_)
      refine gj_if_ne (tgt := 32) C dX1_years_27 (by decide) (fun h27 => gj_neg h27 ?_) (fun h27 => gj_pos h27 ?_)
      · refine gx_aload_n C dX1_years_32 0 rfl ?_
        refine gj_iload_n C dX1_years_33 1 rfl ?_
        refine gj_i2l C dX1_years_34 ?_
        refine gj_nrmL ?_
        refine gx_pL (O := "BorrowedLives") (nm := "g") (ds := "J") (fin := false) C E dX1_years_35 (by decide +kernel) (Or.inl q393) (fun _ h => h) (fun h => by cases h) (by decide +kernel) ?_
        refine gx_aload_n C dX1_years_38 0 rfl ?_
        refine gx_gR (O := "BorrowedLives") (nm := "trial") (ds := "LBorrowedLives$State;") (fin := true) C E dX1_years_39 (by decide +kernel) (Or.inl q382) (fun _ h => h) (fun v39 => ?_)
        refine gx_aload_n C dX1_years_42 0 rfl ?_
        refine gx_gR (O := "BorrowedLives") (nm := "state") (ds := "LBorrowedLives$State;") (fin := true) C E dX1_years_43 (by decide +kernel) (Or.inl q380) (fun _ h => h) (fun v43 => ?_)
        refine gx_callVV (t0 := 4) (As := [rv g v43]) (rest := []) C E rfl dX1_years_46 (mx4_be (cx_l X) g v39 v43) (lw_V q1306 q1307 q1308 q131 q1309) hyx_X4_be rfl hR (Nat.le_of_ble_eq_true rfl) (by decide) rfl rfl (Nat.zero_le _) ?_
        refine gx_aload_n C dX1_years_49 0 rfl ?_
        refine gx_gR (O := "BorrowedLives") (nm := "trial") (ds := "LBorrowedLives$State;") (fin := true) C E dX1_years_50 (by decide +kernel) (Or.inl q382) (fun _ h => h) (fun v50 => ?_)
        refine gx_gI (O := "BorrowedLives$State") (nm := "away") (ds := "Z") (fin := false) C E dX1_years_53 (by decide +kernel) (Or.inr ⟨_, q309⟩) (fun _ h => h) (fun v53 => ?_)
        refine gj_if_eq (tgt := 66) C dX1_years_56 (by decide) (fun h56 => gj_pos h56 ?_) (fun h56 => gj_neg h56 ?_)
        · exact gj_to [0, 2, 3] (J66 a0 a2 a3) rfl
        · refine gx_aload_n C dX1_years_59 0 rfl ?_
          refine gx_gR (O := "BorrowedLives") (nm := "trial") (ds := "LBorrowedLives$State;") (fin := true) C E dX1_years_60 (by decide +kernel) (Or.inl q382) (fun _ h => h) (fun v60 => ?_)
          refine gx_callVV (t0 := 4) (As := []) (rest := []) C E rfl dX1_years_63 (mx4_allAreHome (cx_l X) g v60) (lw_V q1514 q370 q371 q131 q372) hyx_X4_allAreHome rfl hR (Nat.le_of_ble_eq_true rfl) (by decide) rfl rfl (Nat.zero_le _) ?_
          exact gj_to [0, 2, 3] (J66 a0 a2 a3) rfl
      · refine gj_iconst C dX1_years_30 ?_
        exact gx_iret C hQ hr dX1_years_31
def x29_init (a0 : Option Nat) : PT Hp Unit :=
  pbnd (xnn a0) fun _ =>
  pbnd (xnew 4) fun v5 =>
  pbnd (xnn v5) fun _ =>
  pbnd (x4_init v5) fun _ =>
  pbnd (xpR a0 25 0 v5) fun _ =>
  pbnd (xnewa 40 8) fun v18 =>
  pbnd (xpR a0 25 1 v18) fun _ =>
  pbnd (xnewa 40 8) fun v26 =>
  pbnd (xpR a0 25 2 v26) fun _ =>
  pbnd (xnewa 40 8) fun v34 =>
  pbnd (xpR a0 25 3 v34) fun _ =>
  pret ()
set_option maxHeartbeats 4000000 in
set_option maxRecDepth 100000 in
theorem mx29_init (l : Launch) (g : XG) (a0 : Option Nat) : XMet l g yX29_init cX29_init 1 (Option.none : Option Jvm.ClassFile.FieldType) (2) [rv g a0] (x29_init a0) rvV := by
  refine gx_start (by decide +kernel) (by have e := lg_sl_len [rv g a0]; simp only [List.map_cons, List.map_nil, List.sum_cons, List.sum_nil, rv_cat, cat_int, cat_long] at e; omega) (fun X Q σ0 hl C E hQ hR hr hnm => ?_)
  subst hl
  rw [show lv_args 0 [rv g a0] = [(0, rv g a0)] from by simp [lv_args, rv_cat, cat_int, cat_long]]
  show GJ X 1 (xWo g σ0 (cx_s X).heap) Q (x29_init a0) 0 [(0, rv g a0)] []
  unfold x29_init
  refine gx_aload_n C dX29_init_0 0 rfl ?_
  refine gx_objinit C E dX29_init_1 q1708 q180 q181 hR (Nat.le_of_ble_eq_true rfl) (Nat.zero_le _) ?_
  refine gx_aload_n C dX29_init_4 0 rfl ?_
  refine gx_new (t0 := 4) C E dX29_init_5 rfl q1709 q285 q131 (fun v5 => ?_)
  refine gx_dup C dX29_init_8 ?_
  refine gx_callINV (As := []) (rest := [rv g v5, rv g a0]) C E dX29_init_9 (mx4_init (cx_l X) g v5) (lw_meth q288) q131 q1710 q287 rfl hyx_X4_init hR (Nat.le_of_ble_eq_true rfl) (by decide) rfl rfl (by simp only [List.map_cons, List.map_nil, List.sum_cons, List.sum_nil, rv_cat, cat_int, cat_long]; decide) ?_
  refine gx_pR (O := "BorrowedLives$Mark") (nm := "state") (ds := "LBorrowedLives$State;") (fin := true) (ty := (.object "BorrowedLives$State")) C E dX29_init_12 (by decide +kernel) (Or.inl q1711) (fun _ h => h) (fun _ => ⟨hnm, rfl⟩) (by decide +kernel) (by decide) ?_
  refine gx_aload_n C dX29_init_15 0 rfl ?_
  refine gj_bipush C dX29_init_16 rfl ?_
  refine gx_newa (t0 := 0) C E dX29_init_18 (by decide) rfl q340 (by decide) rfl (fun v18 => ?_)
  refine gx_pR (O := "BorrowedLives$Mark") (nm := "life") (ds := "[I") (fin := true) (ty := (.array .int)) C E dX29_init_20 (by decide +kernel) (Or.inl q1713) (fun _ h => h) (fun _ => ⟨hnm, rfl⟩) (by decide +kernel) (by decide) ?_
  refine gx_aload_n C dX29_init_23 0 rfl ?_
  refine gj_bipush C dX29_init_24 rfl ?_
  refine gx_newa (t0 := 0) C E dX29_init_26 (by decide) rfl q340 (by decide) rfl (fun v26 => ?_)
  refine gx_pR (O := "BorrowedLives$Mark") (nm := "day") (ds := "[I") (fin := true) (ty := (.array .int)) C E dX29_init_28 (by decide +kernel) (Or.inl q1715) (fun _ h => h) (fun _ => ⟨hnm, rfl⟩) (by decide +kernel) (by decide) ?_
  refine gx_aload_n C dX29_init_31 0 rfl ?_
  refine gj_bipush C dX29_init_32 rfl ?_
  refine gx_newa (t0 := 0) C E dX29_init_34 (by decide) rfl q340 (by decide) rfl (fun v34 => ?_)
  refine gx_pR (O := "BorrowedLives$Mark") (nm := "purse") (ds := "[I") (fin := true) (ty := (.array .int)) C E dX29_init_36 (by decide +kernel) (Or.inl q1717) (fun _ h => h) (fun _ => ⟨hnm, rfl⟩) (by decide +kernel) (by decide) ?_
  exact gx_vret C hQ hr dX29_init_39
def x1_mark_j46 (a0 : Option Nat) (a1 a2 : Int) : PT Hp Int :=
  pbnd (xgR a0 1 22) fun v47 =>
  pbnd (xldR v47 46 a1) fun v51 =>
  pite (w32 a2 = 0) (
    pbnd (xgR v51 25 0) fun v118 =>
    pbnd (xgR a0 1 4) fun v122 =>
    pbnd (xrecv v118 4) fun _ =>
    pbnd (x4_be v118 v122) fun _ =>
    pbnd (xgR a0 1 16) fun v129 =>
    pbnd (xgR v51 25 1) fun v133 =>
    pbnd (x1_copies v129 v133) fun _ =>
    pbnd (xgR a0 1 17) fun v140 =>
    pbnd (xgR v51 25 2) fun v144 =>
    pbnd (x1_copies v140 v144) fun _ =>
    pbnd (xgR a0 1 18) fun v151 =>
    pbnd (xgR v51 25 3) fun v155 =>
    pbnd (x1_copies v151 v155) fun _ =>
    pbnd (xgI a0 1 19) fun v163 =>
    pbnd (xpI v51 25 4 v163) fun _ =>
    pbnd (pzo 1) fun _ => pret 1) (
    pbnd (xgR a0 1 4) fun v58 =>
    pbnd (xgR v51 25 0) fun v62 =>
    pbnd (xrecv v58 4) fun _ =>
    pbnd (x4_be v58 v62) fun _ =>
    pbnd (xgR v51 25 1) fun v69 =>
    pbnd (xgR a0 1 16) fun v73 =>
    pbnd (x1_copies v69 v73) fun _ =>
    pbnd (xgR v51 25 2) fun v80 =>
    pbnd (xgR a0 1 17) fun v84 =>
    pbnd (x1_copies v80 v84) fun _ =>
    pbnd (xgR v51 25 3) fun v91 =>
    pbnd (xgR a0 1 18) fun v95 =>
    pbnd (x1_copies v91 v95) fun _ =>
    pbnd (xgI v51 25 4) fun v103 =>
    pbnd (xpI a0 1 19 v103) fun _ =>
    pbnd (xpI a0 1 11 0) fun _ =>
    pbnd (pzo 1) fun _ => pret 1)
def x1_mark_j24 (a0 : Option Nat) (a1 a2 : Int) : PT Hp Int :=
  pbnd (xgR a0 1 22) fun v25 =>
  pbnd (xldR v25 46 a1) fun v29 =>
  pite (v29 = none) (
    pbnd (xgR a0 1 22) fun v34 =>
    pbnd (xnew 25) fun v38 =>
    pbnd (xnn v38) fun _ =>
    pbnd (x29_init v38) fun _ =>
    pbnd (xstR v34 46 a1 v38) fun _ =>
    x1_mark_j46 a0 a1 a2) (
    x1_mark_j46 a0 a1 a2)
def x1_mark (a0 : Option Nat) (a1 a2 : Int) : PT Hp Int :=
  pbnd (x1_in a1 0 3) fun v3 =>
  pite (w32 v3 = 0) (
    pbnd (pzo 0) fun _ => pret 0) (
    pite (w32 a2 = 0) (
      x1_mark_j24 a0 a1 a2) (
      pbnd (xgR a0 1 22) fun v14 =>
      pbnd (xldR v14 46 a1) fun v18 =>
      pite (v18 = none) (
        pbnd (pzo 0) fun _ => pret 0) (
        x1_mark_j24 a0 a1 a2)))
set_option maxHeartbeats 4000000 in
set_option maxRecDepth 100000 in
theorem mx1_mark (l : Launch) (g : XG) (a0 : Option Nat) (a1 a2 : Int) : XMet l g yX1_mark cX1_mark 4 (Option.some Jvm.ClassFile.FieldType.boolean) (3) [rv g a0, .int (iI a1), .int (iI a2)] (x1_mark a0 a1 a2) rvI := by
  refine gx_start (by decide +kernel) (by have e := lg_sl_len [rv g a0, .int (iI a1), .int (iI a2)]; simp only [List.map_cons, List.map_nil, List.sum_cons, List.sum_nil, rv_cat, cat_int, cat_long] at e; omega) (fun X Q σ0 hl C E hQ hR hr hnm => ?_)
  subst hl
  rw [show lv_args 0 [rv g a0, .int (iI a1), .int (iI a2)] = [(0, rv g a0), (1, .int (iI a1)), (2, .int (iI a2))] from by simp [lv_args, rv_cat, cat_int, cat_long]]
  show GJ X 4 (xWo g σ0 (cx_s X).heap) Q (x1_mark a0 a1 a2) 0 [(0, rv g a0), (1, .int (iI a1)), (2, .int (iI a2))] []
  have J46 : ∀ (a0 : Option Nat) (a1 a2 : Int), GJ X 4 (xWo g σ0 (cx_s X).heap) Q (x1_mark_j46 a0 a1 a2) 46 [(0, rv g a0), (1, .int (iI a1)), (2, .int (iI a2))] [] := by
    intro a0 a1 a2
    unfold x1_mark_j46
    refine gx_aload_n C dX1_mark_46 0 rfl ?_
    refine gx_gR (O := "BorrowedLives") (nm := "marks") (ds := "[LBorrowedLives$Mark;") (fin := true) C E dX1_mark_47 (by decide +kernel) (Or.inl q405) (fun _ h => h) (fun v47 => ?_)
    refine gj_iload_n C dX1_mark_50 1 rfl ?_
    refine gx_aald (t0 := 6) C E dX1_mark_51 (by decide) (by decide) rfl rfl (fun v51 => ?_)
    refine gx_astore_n (L' := [(3, _), (0, _), (1, _), (2, _)]) C dX1_mark_52 (by decide) rfl ?_
    refine gj_iload_n C dX1_mark_53 3 rfl ?_
    refine gj_if_eq (tgt := 117) C dX1_mark_54 (by decide) (fun h54 => gj_pos h54 ?_) (fun h54 => gj_neg h54 ?_)
    · refine gx_aload_n C dX1_mark_117 0 rfl ?_
      refine gx_gR (O := "BorrowedLives$Mark") (nm := "state") (ds := "LBorrowedLives$State;") (fin := true) C E dX1_mark_118 (by decide +kernel) (Or.inr ⟨_, q1712⟩) (fun _ h => h) (fun v118 => ?_)
      refine gx_aload_n C dX1_mark_121 1 rfl ?_
      refine gx_gR (O := "BorrowedLives") (nm := "state") (ds := "LBorrowedLives$State;") (fin := true) C E dX1_mark_122 (by decide +kernel) (Or.inl q380) (fun _ h => h) (fun v122 => ?_)
      refine gx_callVV (t0 := 4) (As := [rv g v122]) (rest := []) C E rfl dX1_mark_125 (mx4_be (cx_l X) g v118 v122) (lw_V q1306 q1307 q1308 q131 q1309) hyx_X4_be rfl hR (Nat.le_of_ble_eq_true rfl) (by decide) rfl rfl (Nat.zero_le _) ?_
      refine gx_aload_n C dX1_mark_128 1 rfl ?_
      refine gx_gR (O := "BorrowedLives") (nm := "taleLife") (ds := "[I") (fin := true) C E dX1_mark_129 (by decide +kernel) (Or.inl q397) (fun _ h => h) (fun v129 => ?_)
      refine gx_aload_n C dX1_mark_132 0 rfl ?_
      refine gx_gR (O := "BorrowedLives$Mark") (nm := "life") (ds := "[I") (fin := true) C E dX1_mark_133 (by decide +kernel) (Or.inr ⟨_, q1714⟩) (fun _ h => h) (fun v133 => ?_)
      refine gx_callSV (As := [rv g v129, rv g v133]) (rest := []) C E dX1_mark_136 (mx1_copies (cx_l X) g v129 v133) (lw_S q1398 q1311 q125 q1312) hyx_X1_copies hR (Nat.le_of_ble_eq_true rfl) (by decide) rfl rfl (Nat.zero_le _) ?_
      refine gx_aload_n C dX1_mark_139 1 rfl ?_
      refine gx_gR (O := "BorrowedLives") (nm := "taleDay") (ds := "[I") (fin := true) C E dX1_mark_140 (by decide +kernel) (Or.inl q398) (fun _ h => h) (fun v140 => ?_)
      refine gx_aload_n C dX1_mark_143 0 rfl ?_
      refine gx_gR (O := "BorrowedLives$Mark") (nm := "day") (ds := "[I") (fin := true) C E dX1_mark_144 (by decide +kernel) (Or.inr ⟨_, q1716⟩) (fun _ h => h) (fun v144 => ?_)
      refine gx_callSV (As := [rv g v140, rv g v144]) (rest := []) C E dX1_mark_147 (mx1_copies (cx_l X) g v140 v144) (lw_S q1398 q1311 q125 q1312) hyx_X1_copies hR (Nat.le_of_ble_eq_true rfl) (by decide) rfl rfl (Nat.zero_le _) ?_
      refine gx_aload_n C dX1_mark_150 1 rfl ?_
      refine gx_gR (O := "BorrowedLives") (nm := "talePurse") (ds := "[I") (fin := true) C E dX1_mark_151 (by decide +kernel) (Or.inl q399) (fun _ h => h) (fun v151 => ?_)
      refine gx_aload_n C dX1_mark_154 0 rfl ?_
      refine gx_gR (O := "BorrowedLives$Mark") (nm := "purse") (ds := "[I") (fin := true) C E dX1_mark_155 (by decide +kernel) (Or.inr ⟨_, q1718⟩) (fun _ h => h) (fun v155 => ?_)
      refine gx_callSV (As := [rv g v151, rv g v155]) (rest := []) C E dX1_mark_158 (mx1_copies (cx_l X) g v151 v155) (lw_S q1398 q1311 q125 q1312) hyx_X1_copies hR (Nat.le_of_ble_eq_true rfl) (by decide) rfl rfl (Nat.zero_le _) ?_
      refine gx_aload_n C dX1_mark_161 0 rfl ?_
      refine gx_aload_n C dX1_mark_162 1 rfl ?_
      refine gx_gI (O := "BorrowedLives") (nm := "tales") (ds := "I") (fin := false) C E dX1_mark_163 (by decide +kernel) (Or.inl q400) (fun _ h => h) (fun v163 => ?_)
      refine gx_pI (O := "BorrowedLives$Mark") (nm := "tales") (ds := "I") (fin := false) (ty := .int) C E dX1_mark_166 (by decide +kernel) (Or.inr ⟨_, q1719⟩) (fun _ h => h) (fun h => by cases h) (by decide +kernel) (inty_int _) ?_
      refine gj_iconst C dX1_mark_169 ?_
      exact gx_zret C hQ hr dX1_mark_170
    · refine gx_aload_n C dX1_mark_57 1 rfl ?_
      refine gx_gR (O := "BorrowedLives") (nm := "state") (ds := "LBorrowedLives$State;") (fin := true) C E dX1_mark_58 (by decide +kernel) (Or.inl q380) (fun _ h => h) (fun v58 => ?_)
      refine gx_aload_n C dX1_mark_61 0 rfl ?_
      refine gx_gR (O := "BorrowedLives$Mark") (nm := "state") (ds := "LBorrowedLives$State;") (fin := true) C E dX1_mark_62 (by decide +kernel) (Or.inr ⟨_, q1712⟩) (fun _ h => h) (fun v62 => ?_)
      refine gx_callVV (t0 := 4) (As := [rv g v62]) (rest := []) C E rfl dX1_mark_65 (mx4_be (cx_l X) g v58 v62) (lw_V q1306 q1307 q1308 q131 q1309) hyx_X4_be rfl hR (Nat.le_of_ble_eq_true rfl) (by decide) rfl rfl (Nat.zero_le _) ?_
      refine gx_aload_n C dX1_mark_68 0 rfl ?_
      refine gx_gR (O := "BorrowedLives$Mark") (nm := "life") (ds := "[I") (fin := true) C E dX1_mark_69 (by decide +kernel) (Or.inr ⟨_, q1714⟩) (fun _ h => h) (fun v69 => ?_)
      refine gx_aload_n C dX1_mark_72 1 rfl ?_
      refine gx_gR (O := "BorrowedLives") (nm := "taleLife") (ds := "[I") (fin := true) C E dX1_mark_73 (by decide +kernel) (Or.inl q397) (fun _ h => h) (fun v73 => ?_)
      refine gx_callSV (As := [rv g v69, rv g v73]) (rest := []) C E dX1_mark_76 (mx1_copies (cx_l X) g v69 v73) (lw_S q1398 q1311 q125 q1312) hyx_X1_copies hR (Nat.le_of_ble_eq_true rfl) (by decide) rfl rfl (Nat.zero_le _) ?_
      refine gx_aload_n C dX1_mark_79 0 rfl ?_
      refine gx_gR (O := "BorrowedLives$Mark") (nm := "day") (ds := "[I") (fin := true) C E dX1_mark_80 (by decide +kernel) (Or.inr ⟨_, q1716⟩) (fun _ h => h) (fun v80 => ?_)
      refine gx_aload_n C dX1_mark_83 1 rfl ?_
      refine gx_gR (O := "BorrowedLives") (nm := "taleDay") (ds := "[I") (fin := true) C E dX1_mark_84 (by decide +kernel) (Or.inl q398) (fun _ h => h) (fun v84 => ?_)
      refine gx_callSV (As := [rv g v80, rv g v84]) (rest := []) C E dX1_mark_87 (mx1_copies (cx_l X) g v80 v84) (lw_S q1398 q1311 q125 q1312) hyx_X1_copies hR (Nat.le_of_ble_eq_true rfl) (by decide) rfl rfl (Nat.zero_le _) ?_
      refine gx_aload_n C dX1_mark_90 0 rfl ?_
      refine gx_gR (O := "BorrowedLives$Mark") (nm := "purse") (ds := "[I") (fin := true) C E dX1_mark_91 (by decide +kernel) (Or.inr ⟨_, q1718⟩) (fun _ h => h) (fun v91 => ?_)
      refine gx_aload_n C dX1_mark_94 1 rfl ?_
      refine gx_gR (O := "BorrowedLives") (nm := "talePurse") (ds := "[I") (fin := true) C E dX1_mark_95 (by decide +kernel) (Or.inl q399) (fun _ h => h) (fun v95 => ?_)
      refine gx_callSV (As := [rv g v91, rv g v95]) (rest := []) C E dX1_mark_98 (mx1_copies (cx_l X) g v91 v95) (lw_S q1398 q1311 q125 q1312) hyx_X1_copies hR (Nat.le_of_ble_eq_true rfl) (by decide) rfl rfl (Nat.zero_le _) ?_
      refine gx_aload_n C dX1_mark_101 1 rfl ?_
      refine gx_aload_n C dX1_mark_102 0 rfl ?_
      refine gx_gI (O := "BorrowedLives$Mark") (nm := "tales") (ds := "I") (fin := false) C E dX1_mark_103 (by decide +kernel) (Or.inr ⟨_, q1719⟩) (fun _ h => h) (fun v103 => ?_)
      refine gx_pI (O := "BorrowedLives") (nm := "tales") (ds := "I") (fin := false) (ty := .int) C E dX1_mark_106 (by decide +kernel) (Or.inl q400) (fun _ h => h) (fun h => by cases h) (by decide +kernel) (inty_int _) ?_
      refine gx_aload_n C dX1_mark_109 1 rfl ?_
      refine gj_iconst C dX1_mark_110 ?_
      refine gx_pI (O := "BorrowedLives") (nm := "done") (ds := "I") (fin := false) (ty := .int) C E dX1_mark_111 (by decide +kernel) (Or.inl q391) (fun _ h => h) (fun h => by cases h) (by decide +kernel) (inty_int _) ?_
      refine gj_goto (tgt := 169) C dX1_mark_114 (by decide) ?_
      refine gj_iconst C dX1_mark_169 ?_
      exact gx_zret C hQ hr dX1_mark_170
  have J24 : ∀ (a0 : Option Nat) (a1 a2 : Int), GJ X 4 (xWo g σ0 (cx_s X).heap) Q (x1_mark_j24 a0 a1 a2) 24 [(0, rv g a0), (1, .int (iI a1)), (2, .int (iI a2))] [] := by
    intro a0 a1 a2
    unfold x1_mark_j24
    refine gx_aload_n C dX1_mark_24 0 rfl ?_
    refine gx_gR (O := "BorrowedLives") (nm := "marks") (ds := "[LBorrowedLives$Mark;") (fin := true) C E dX1_mark_25 (by decide +kernel) (Or.inl q405) (fun _ h => h) (fun v25 => ?_)
    refine gj_iload_n C dX1_mark_28 1 rfl ?_
    refine gx_aald (t0 := 6) C E dX1_mark_29 (by decide) (by decide) rfl rfl (fun v29 => ?_)
    refine gx_ifnonnull (tgt := 46) C dX1_mark_30 (by decide) (fun h30 => gj_neg h30 ?_) (fun h30 => gj_pos h30 ?_)
    · exact gj_to [0, 1, 2] (J46 a0 a1 a2) rfl
    · refine gx_aload_n C dX1_mark_33 0 rfl ?_
      refine gx_gR (O := "BorrowedLives") (nm := "marks") (ds := "[LBorrowedLives$Mark;") (fin := true) C E dX1_mark_34 (by decide +kernel) (Or.inl q405) (fun _ h => h) (fun v34 => ?_)
      refine gj_iload_n C dX1_mark_37 1 rfl ?_
      refine gx_new (t0 := 25) C E dX1_mark_38 rfl q344 q1704 q173 (fun v38 => ?_)
      refine gx_dup C dX1_mark_41 ?_
      refine gx_callINV (As := []) (rest := [rv g v38, .int (iI a1), rv g v34]) C E dX1_mark_42 (mx29_init (cx_l X) g v38) (lw_meth q1707) q173 q1705 q1706 rfl hyx_X29_init hR (Nat.le_of_ble_eq_true rfl) (by decide) rfl rfl (by simp only [List.map_cons, List.map_nil, List.sum_cons, List.sum_nil, rv_cat, cat_int, cat_long]; decide) ?_
      refine gx_aast (t0 := 6) C E dX1_mark_45 (by decide) (by decide) rfl xcast46 xelt46 ?_
      exact gj_to [0, 1, 2] (J46 a0 a1 a2) rfl
  unfold x1_mark
  refine gj_iload_n C dX1_mark_0 1 rfl ?_
  refine gj_iconst C dX1_mark_1 ?_
  refine gj_iconst C dX1_mark_2 ?_
  refine gx_callSI (As := [.int (iI a1), .int (iI 0), .int (iI 3)]) (rest := []) C E dX1_mark_3 (mx1_in (cx_l X) g a1 0 3) (lw_S q1197 q1198 q125 q1199) hyx_X1_in hR (Nat.le_of_ble_eq_true rfl) (by decide) rfl rfl (Nat.zero_le _) (fun v3 => ?_)
  refine gj_if_eq (tgt := 22) C dX1_mark_6 (by decide) (fun h6 => gj_pos h6 ?_) (fun h6 => gj_neg h6 ?_)
  · refine gj_iconst C dX1_mark_22 ?_
    exact gx_zret C hQ hr dX1_mark_23
  · refine gj_iload_n C dX1_mark_9 2 rfl ?_
    refine gj_if_eq (tgt := 24) C dX1_mark_10 (by decide) (fun h10 => gj_pos h10 ?_) (fun h10 => gj_neg h10 ?_)
    · exact gj_to [0, 1, 2] (J24 a0 a1 a2) rfl
    · refine gx_aload_n C dX1_mark_13 0 rfl ?_
      refine gx_gR (O := "BorrowedLives") (nm := "marks") (ds := "[LBorrowedLives$Mark;") (fin := true) C E dX1_mark_14 (by decide +kernel) (Or.inl q405) (fun _ h => h) (fun v14 => ?_)
      refine gj_iload_n C dX1_mark_17 1 rfl ?_
      refine gx_aald (t0 := 6) C E dX1_mark_18 (by decide) (by decide) rfl rfl (fun v18 => ?_)
      refine gx_ifnonnull (tgt := 24) C dX1_mark_19 (by decide) (fun h19 => gj_neg h19 ?_) (fun h19 => gj_pos h19 ?_)
      · exact gj_to [0, 1, 2] (J24 a0 a1 a2) rfl
      · refine gj_iconst C dX1_mark_22 ?_
        exact gx_zret C hQ hr dX1_mark_23
