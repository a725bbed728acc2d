/-! THE COMPONENT: its methods as pure programs, and that the machine runs so (X1.rests, X0.rests, X2.init, J0.init, J1.init, J2.init, X3.init, X4.init, X4.allAreHome, X4.begin, X1.init, X1.feed, X2.at, X2.isLetter, X2.isDigit, J5.isLatin1, J5.coder, J5.length, J6.canEncode, J6.indexOfChar, J6.indexOf, J5.indexOf_2, J5.indexOf, X2.next): printed by genx.py -/
def x1_rests_j100 (a1 a2 a3 a4 a5 a6 a7 : Int) (bk50 : (Int × Int) → XT Hp Int) (bk59 : (Int × Int) → XT Hp Int) : XT Hp Int :=
  bk59 (a5, a7 + 1)
def x1_rests_b59 (a1 a2 a3 a4 a6 : Int) (bk50 : (Int × Int) → XT Hp Int) (a5 a7 : Int) (bk59 : (Int × Int) → XT Hp Int) : XT Hp Int :=
  pite (5 < w32 a7) (
    bk50 (a5, a6 + 1)) (
    pbnd (x1_isRest a1 a2 a3 a6 a7) fun v72 =>
    pite (w32 v72 = 0) (
      x1_rests_j100 a1 a2 a3 a4 a5 a6 a7 bk50 bk59) (
      pite (w32 a5 = w32 a4) (
        xret (w32 (((a6 * 10)) + a7))) (
        x1_rests_j100 a1 a2 a3 a4 (a5 + 1) a6 a7 bk50 bk59)))
def x1_rests_l59 (a1 a2 a3 a4 a5 a6 a7 : Int) (bk50 : (Int × Int) → XT Hp Int) : XT Hp Int :=
  ploop (fun (s : (Int × Int)) bk59 => x1_rests_b59 a1 a2 a3 a4 a6 bk50 s.1 s.2 bk59) (a5, a7)
def x1_rests_b50 (a1 a2 a3 a4 : Int) (a5 a6 : Int) (bk50 : (Int × Int) → XT Hp Int) : XT Hp Int :=
  pite (5 < w32 a6) (
    plet (if w32 a4 = (-1) then 1 else 0) fun d123 =>
    xbnd (x1_need d123) fun _ =>
    xret (w32 a5)) (
    x1_rests_l59 a1 a2 a3 a4 a5 a6 0 bk50)
def x1_rests_l50 (a1 a2 a3 a4 a5 a6 : Int) : XT Hp Int :=
  ploop (fun (s : (Int × Int)) bk50 => x1_rests_b50 a1 a2 a3 a4 s.1 s.2 bk50) (a5, a6)
def x1_rests_j41 (a1 a2 a3 a4 s0 : Int) : XT Hp Int :=
  xbnd (x1_need s0) fun _ =>
  x1_rests_l50 a1 a2 a3 a4 0 0
def x1_rests_j40 (a1 a2 a3 a4 : Int) : XT Hp Int :=
  x1_rests_j41 a1 a2 a3 a4 0
def x1_rests (a0 : Option Nat) (a1 a2 a3 a4 : Int) : XT Hp Int :=
  pbnd (x1_in a1 0 9) fun v4 =>
  pite (w32 v4 = 0) (
    x1_rests_j40 a1 a2 a3 a4) (
    pbnd (x1_in a2 0 9) fun v14 =>
    pite (w32 v14 = 0) (
      x1_rests_j40 a1 a2 a3 a4) (
      pbnd (x1_in a3 0 9) fun v24 =>
      pite (w32 v24 = 0) (
        x1_rests_j40 a1 a2 a3 a4) (
        pite (w32 a4 < (-1)) (
          x1_rests_j40 a1 a2 a3 a4) (
          x1_rests_j41 a1 a2 a3 a4 1))))
set_option maxHeartbeats 4000000 in
set_option maxRecDepth 100000 in
theorem mx1_rests (l : Launch) (g : XG) (hst : l.stackTraces = false) (a0 : Option Nat) (a1 a2 a3 a4 : Int) : XMetX l g nse yX1_rests cX1_rests 8 (Option.some Jvm.ClassFile.FieldType.int) (12) [rv g a0, .int (iI a1), .int (iI a2), .int (iI a3), .int (iI a4)] (x1_rests a0 a1 a2 a3 a4) rvI := by
  refine gy_start (by decide +kernel) (by have e := lg_sl_len [rv g a0, .int (iI a1), .int (iI a2), .int (iI a3), .int (iI a4)]; simp only [List.map_cons, List.map_nil, List.sum_cons, List.sum_nil, rv_cat, cat_int, cat_long] at e; omega) (fun X Q σ0 hl C E hQ hR hr hX => ?_)
  subst hl
  rw [show lv_args 0 [rv g a0, .int (iI a1), .int (iI a2), .int (iI a3), .int (iI a4)] = [(0, rv g a0), (1, .int (iI a1)), (2, .int (iI a2)), (3, .int (iI a3)), (4, .int (iI a4))] from by simp [lv_args, rv_cat, cat_int, cat_long]]
  show GJ X 8 (xWo g σ0 (cx_s X).heap) Q (x1_rests a0 a1 a2 a3 a4) 0 [(0, rv g a0), (1, .int (iI a1)), (2, .int (iI a2)), (3, .int (iI a3)), (4, .int (iI a4))] []
  have J50 : ∀ (a1 a2 a3 a4 a5 a6 : Int), GJ X 8 (xWo g σ0 (cx_s X).heap) Q (x1_rests_l50 a1 a2 a3 a4 a5 a6) 50 [(1, .int (iI a1)), (2, .int (iI a2)), (3, .int (iI a3)), (4, .int (iI a4)), (5, .int (iI a5)), (6, .int (iI a6))] [] := by
    intro a1 a2 a3 a4 a5 a6
    unfold x1_rests_l50
    refine gj_loop (fun (s : (Int × Int)) => [(1, .int (iI a1)), (2, .int (iI a2)), (3, .int (iI a3)), (4, .int (iI a4)), (5, .int (iI (s.1))), (6, .int (iI (s.2)))]) (a5, a6) (fun bk50 hb50 s => ?_)
    obtain ⟨a5, a6⟩ := s
    show GJ X 8 (xWo g σ0 (cx_s X).heap) Q (x1_rests_b50 a1 a2 a3 a4 a5 a6 bk50) 50 [(1, .int (iI a1)), (2, .int (iI a2)), (3, .int (iI a3)), (4, .int (iI a4)), (5, .int (iI a5)), (6, .int (iI a6))] []
    have J59 : ∀ (a5 a6 a7 : Int), GJ X 8 (xWo g σ0 (cx_s X).heap) Q (x1_rests_l59 a1 a2 a3 a4 a5 a6 a7 bk50) 59 [(1, .int (iI a1)), (2, .int (iI a2)), (3, .int (iI a3)), (4, .int (iI a4)), (5, .int (iI a5)), (6, .int (iI a6)), (7, .int (iI a7))] [] := by
      intro a5 a6 a7
      unfold x1_rests_l59
      refine gj_loop (fun (s : (Int × Int)) => [(1, .int (iI a1)), (2, .int (iI a2)), (3, .int (iI a3)), (4, .int (iI a4)), (5, .int (iI (s.1))), (6, .int (iI a6)), (7, .int (iI (s.2)))]) (a5, a7) (fun bk59 hb59 s => ?_)
      obtain ⟨a5, a7⟩ := s
      show GJ X 8 (xWo g σ0 (cx_s X).heap) Q (x1_rests_b59 a1 a2 a3 a4 a6 bk50 a5 a7 bk59) 59 [(1, .int (iI a1)), (2, .int (iI a2)), (3, .int (iI a3)), (4, .int (iI a4)), (5, .int (iI a5)), (6, .int (iI a6)), (7, .int (iI a7))] []
      have J100 : ∀ (a5 a7 : Int), GJ X 8 (xWo g σ0 (cx_s X).heap) Q (x1_rests_j100 a1 a2 a3 a4 a5 a6 a7 bk50 bk59) 100 [(1, .int (iI a1)), (2, .int (iI a2)), (3, .int (iI a3)), (4, .int (iI a4)), (5, .int (iI a5)), (6, .int (iI a6)), (7, .int (iI a7))] [] := by
        intro a5 a7
        unfold x1_rests_j100
        refine gj_iinc (L' := [(7, _), (1, _), (2, _), (3, _), (4, _), (5, _), (6, _)]) C dX1_rests_100 6 rfl (by decide) rfl ?_
        refine gj_goto (tgt := 59) C dX1_rests_103 (by decide) ?_
        exact gj_to [1, 2, 3, 4, 5, 6, 0] (hb59 (a5, a7 + 1)) rfl
      unfold x1_rests_b59
      refine gj_iload C dX1_rests_59 6 rfl ?_
      refine gj_iconst C dX1_rests_61 ?_
      refine gj_icmp_gt (tgt := 106) (b' := 5) C dX1_rests_62 (by decide) rfl (by decide) (fun h62 => gj_pos h62 ?_) (fun h62 => gj_neg h62 ?_)
      · refine gj_iinc (L' := [(6, _), (1, _), (2, _), (3, _), (4, _), (5, _), (7, _)]) C dX1_rests_106 5 rfl (by decide) rfl ?_
        refine gj_goto (tgt := 50) C dX1_rests_109 (by decide) ?_
        exact gj_to [1, 2, 3, 4, 5, 0] (hb50 (a5, a6 + 1)) rfl
      · refine gj_iload_n C dX1_rests_65 0 rfl ?_
        refine gj_iload_n C dX1_rests_66 1 rfl ?_
        refine gj_iload_n C dX1_rests_67 2 rfl ?_
        refine gj_iload C dX1_rests_68 5 rfl ?_
        refine gj_iload C dX1_rests_70 6 rfl ?_
        refine gx_callSI (As := [.int (iI a1), .int (iI a2), .int (iI a3), .int (iI a6), .int (iI a7)]) (rest := []) C E dX1_rests_72 (mx1_isRest (cx_l X) g a1 a2 a3 a6 a7) (lw_S q1788 q1789 q125 q1790) hyx_X1_isRest hR (Nat.le_of_ble_eq_true rfl) (by decide) rfl rfl (Nat.zero_le _) (fun v72 => ?_)
        refine gj_if_ne (tgt := 81) C dX1_rests_75 (by decide) (fun h75 => gj_neg h75 ?_) (fun h75 => gj_pos h75 ?_)
        · refine gj_iload C dX1_rests_81 4 rfl ?_
          refine gj_iload C dX1_rests_83 3 rfl ?_
          refine gj_icmp_ne (tgt := 97) C dX1_rests_85 (by decide) rfl rfl (fun h85 => gj_neg h85 ?_) (fun h85 => gj_pos h85 ?_)
          · refine gj_iinc (L' := [(5, _), (1, _), (2, _), (3, _), (4, _), (6, _), (7, _)]) C dX1_rests_97 4 rfl (by decide) rfl ?_
            exact gj_to [1, 2, 3, 4, 0, 5, 6] (J100 (a5 + 1) a7) rfl
          · refine gj_iload C dX1_rests_88 5 rfl ?_
            refine gj_bipush C dX1_rests_90 rfl ?_
            refine gj_imul C dX1_rests_92 ?_
            refine gj_iload C dX1_rests_93 6 rfl ?_
            refine gj_iadd C dX1_rests_95 ?_
            refine gj_nrmI ?_
            exact gy_iret C hQ hr dX1_rests_96
        · refine gj_goto (tgt := 100) C dX1_rests_78 (by decide) ?_
          exact gj_to [0, 1, 2, 3, 4, 5, 6] (J100 a5 a7) rfl
    unfold x1_rests_b50
    refine gj_iload C dX1_rests_50 5 rfl ?_
    refine gj_iconst C dX1_rests_52 ?_
    refine gj_icmp_gt (tgt := 112) (b' := 5) C dX1_rests_53 (by decide) rfl (by decide) (fun h53 => gj_pos h53 ?_) (fun h53 => gj_neg h53 ?_)
    · refine gj_iload C dX1_rests_112 3 rfl ?_
      refine gj_iconst C dX1_rests_114 ?_
      refine gj_dia (J := 123) (L := [(1, .int (iI a1)), (2, .int (iI a2)), (3, .int (iI a3)), (4, .int (iI a4)), (5, .int (iI a5)), (6, .int (iI a6))]) (st := []) (fun d123 => ?_) (fun t hJ => ?_)
      · skip
        refine gy_callSV (As := [.int (iI d123)]) (rest := []) C E hX hQ dX1_rests_123 (mx1_need (cx_l X) g hst d123) (lw_S q1743 q1744 q125 q1745) hyx_X1_need hR (Nat.le_of_ble_eq_true rfl) (by decide) rfl rfl (Nat.zero_le _) ?_
        refine gj_iload C dX1_rests_126 4 rfl ?_
        refine gj_nrmI ?_
        exact gy_iret C hQ hr dX1_rests_128
      · refine gj_icmp_ne (tgt := 122) (b' := (-1)) C dX1_rests_115 (by decide) rfl (by decide) (fun h115 => ?_) (fun h115 => ?_)
        · refine gj_iconst C dX1_rests_122 ?_
          exact (by rw [if_neg h115] at hJ; exact hJ)
        · refine gj_iconst C dX1_rests_118 ?_
          refine gj_goto (tgt := 123) C dX1_rests_119 (by decide) ?_
          exact (by rw [if_pos h115] at hJ; exact hJ)
    · refine gj_iconst C dX1_rests_56 ?_
      refine gj_istore (L' := [(7, _), (1, _), (2, _), (3, _), (4, _), (5, _), (6, _)]) C dX1_rests_57 (by decide) rfl ?_
      exact gj_to [1, 2, 3, 4, 5, 6, 0] (J59 a5 a6 0) rfl
  have J41 : ∀ (a1 a2 a3 a4 s0 : Int), GJ X 8 (xWo g σ0 (cx_s X).heap) Q (x1_rests_j41 a1 a2 a3 a4 s0) 41 [(1, .int (iI a1)), (2, .int (iI a2)), (3, .int (iI a3)), (4, .int (iI a4))] [.int (iI s0)] := by
    intro a1 a2 a3 a4 s0
    unfold x1_rests_j41
    refine gy_callSV (As := [.int (iI s0)]) (rest := []) C E hX hQ dX1_rests_41 (mx1_need (cx_l X) g hst s0) (lw_S q1743 q1744 q125 q1745) hyx_X1_need hR (Nat.le_of_ble_eq_true rfl) (by decide) rfl rfl (Nat.zero_le _) ?_
    refine gj_iconst C dX1_rests_44 ?_
    refine gj_istore (L' := [(5, _), (1, _), (2, _), (3, _), (4, _)]) C dX1_rests_45 (by decide) rfl ?_
    refine gj_iconst C dX1_rests_47 ?_
    refine gj_istore (L' := [(6, _), (5, _), (1, _), (2, _), (3, _), (4, _)]) C dX1_rests_48 (by decide) rfl ?_
    exact gj_to [2, 3, 4, 5, 1, 0] (J50 a1 a2 a3 a4 0 0) rfl
  have J40 : ∀ (a1 a2 a3 a4 : Int), GJ X 8 (xWo g σ0 (cx_s X).heap) Q (x1_rests_j40 a1 a2 a3 a4) 40 [(1, .int (iI a1)), (2, .int (iI a2)), (3, .int (iI a3)), (4, .int (iI a4))] [] := by
    intro a1 a2 a3 a4
    unfold x1_rests_j40
    refine gj_iconst C dX1_rests_40 ?_
    exact gj_to [0, 1, 2, 3] (J41 a1 a2 a3 a4 0) rfl
  unfold x1_rests
  refine gj_iload_n C dX1_rests_0 1 rfl ?_
  refine gj_iconst C dX1_rests_1 ?_
  refine gj_bipush C dX1_rests_2 rfl ?_
  refine gx_callSI (As := [.int (iI a1), .int (iI 0), .int (iI 9)]) (rest := []) C E dX1_rests_4 (mx1_in (cx_l X) g a1 0 9) (lw_S q1197 q1198 q125 q1199) hyx_X1_in hR (Nat.le_of_ble_eq_true rfl) (by decide) rfl rfl (Nat.zero_le _) (fun v4 => ?_)
  refine gj_if_eq (tgt := 40) C dX1_rests_7 (by decide) (fun h7 => gj_pos h7 ?_) (fun h7 => gj_neg h7 ?_)
  · exact gj_to [1, 2, 3, 4] (J40 a1 a2 a3 a4) rfl
  · refine gj_iload_n C dX1_rests_10 2 rfl ?_
    refine gj_iconst C dX1_rests_11 ?_
    refine gj_bipush C dX1_rests_12 rfl ?_
    refine gx_callSI (As := [.int (iI a2), .int (iI 0), .int (iI 9)]) (rest := []) C E dX1_rests_14 (mx1_in (cx_l X) g a2 0 9) (lw_S q1197 q1198 q125 q1199) hyx_X1_in hR (Nat.le_of_ble_eq_true rfl) (by decide) rfl rfl (Nat.zero_le _) (fun v14 => ?_)
    refine gj_if_eq (tgt := 40) C dX1_rests_17 (by decide) (fun h17 => gj_pos h17 ?_) (fun h17 => gj_neg h17 ?_)
    · exact gj_to [1, 2, 3, 4] (J40 a1 a2 a3 a4) rfl
    · refine gj_iload_n C dX1_rests_20 3 rfl ?_
      refine gj_iconst C dX1_rests_21 ?_
      refine gj_bipush C dX1_rests_22 rfl ?_
      refine gx_callSI (As := [.int (iI a3), .int (iI 0), .int (iI 9)]) (rest := []) C E dX1_rests_24 (mx1_in (cx_l X) g a3 0 9) (lw_S q1197 q1198 q125 q1199) hyx_X1_in hR (Nat.le_of_ble_eq_true rfl) (by decide) rfl rfl (Nat.zero_le _) (fun v24 => ?_)
      refine gj_if_eq (tgt := 40) C dX1_rests_27 (by decide) (fun h27 => gj_pos h27 ?_) (fun h27 => gj_neg h27 ?_)
      · exact gj_to [1, 2, 3, 4] (J40 a1 a2 a3 a4) rfl
      · refine gj_iload C dX1_rests_30 4 rfl ?_
        refine gj_iconst C dX1_rests_32 ?_
        refine gj_icmp_lt (tgt := 40) (b' := (-1)) C dX1_rests_33 (by decide) rfl (by decide) (fun h33 => gj_pos h33 ?_) (fun h33 => gj_neg h33 ?_)
        · exact gj_to [1, 2, 3, 4] (J40 a1 a2 a3 a4) rfl
        · refine gj_iconst C dX1_rests_36 ?_
          refine gj_goto (tgt := 41) C dX1_rests_37 (by decide) ?_
          exact gj_to [1, 2, 3, 4] (J41 a1 a2 a3 a4 1) rfl
def x0_rests (a0 : Option Nat) (a1 a2 a3 a4 : Int) (a5 : Option Nat) : PT Hp Int :=
  pbnd (xrecv a0 1) fun _ =>
  xtry (x1_rests a0 a1 a2 a3 a4) (fun q9 =>
    pret 1
    ) fun v9 =>
  pbnd (xst a5 41 0 (w64 (zi2l v9))) fun _ =>
  pret 0
set_option maxHeartbeats 4000000 in
set_option maxRecDepth 100000 in
theorem mx0_rests (l : Launch) (g : XG) (hst : l.stackTraces = false) (a0 : Option Nat) (a1 a2 a3 a4 : Int) (a5 : Option Nat) : XMetW l g yX0_rests cX0_rests 7 (Option.some Jvm.ClassFile.FieldType.int) [((0 : Nat), (14 : Nat), (17 : Nat), (13 : Nat))] (13) [rv g a0, .int (iI a1), .int (iI a2), .int (iI a3), .int (iI a4), rv g a5] (x0_rests a0 a1 a2 a3 a4 a5) rvI := by
  refine gx_startW (by decide +kernel) (by have e := lg_sl_len [rv g a0, .int (iI a1), .int (iI a2), .int (iI a3), .int (iI a4), rv g a5]; simp only [List.map_cons, List.map_nil, List.sum_cons, List.sum_nil, rv_cat, cat_int, cat_long] at e; omega) (fun X Q σ0 hl C E hQ hR hr hTab => ?_)
  subst hl
  rw [show lv_args 0 [rv g a0, .int (iI a1), .int (iI a2), .int (iI a3), .int (iI a4), rv g a5] = [(0, rv g a0), (1, .int (iI a1)), (2, .int (iI a2)), (3, .int (iI a3)), (4, .int (iI a4)), (5, rv g a5)] from by simp [lv_args, rv_cat, cat_int, cat_long]]
  show GJ X 7 (xWo g σ0 (cx_s X).heap) Q (x0_rests a0 a1 a2 a3 a4 a5) 0 [(0, rv g a0), (1, .int (iI a1)), (2, .int (iI a2)), (3, .int (iI a3)), (4, .int (iI a4)), (5, rv g a5)] []
  unfold x0_rests
  refine gx_aload C dX0_rests_0 5 rfl ?_
  refine gj_iconst C dX0_rests_2 ?_
  refine gx_aload_n C dX0_rests_3 0 rfl ?_
  refine gj_iload_n C dX0_rests_4 1 rfl ?_
  refine gj_iload_n C dX0_rests_5 2 rfl ?_
  refine gj_iload_n C dX0_rests_6 3 rfl ?_
  refine gj_iload C dX0_rests_7 4 rfl ?_
  refine gy_tryVI (t0 := 1) (As := [.int (iI a1), .int (iI a2), .int (iI a3), .int (iI a4)]) (rest := [.int (iI 0), rv g a5]) C E rfl dX0_rests_9 (mx1_rests (cx_l X) g hst a0 a1 a2 a3 a4) (lw_V q1784 q1785 q1786 q125 q1787) hyx_X1_rests rfl hR (Nat.le_of_ble_eq_true rfl) (by decide) rfl rfl (by simp only [List.map_cons, List.map_nil, List.sum_cons, List.sum_nil, rv_cat, cat_int, cat_long]; decide) (gy_caught C E hTab (by decide) (by decide) q1738 q1748 (fun q9 => ?_)) (fun v9 => ?_)
  · refine gx_astore (L' := [(6, rv g ((some q9))), (0, rv g a0), (1, .int (iI a1)), (2, .int (iI a2)), (3, .int (iI a3)), (4, .int (iI a4)), (5, rv g a5)]) C dX0_rests_17 (by decide) (by simp [List.filter, rv_cat, cat_int, cat_long, fin4_3]) ?_
    refine gj_iconst C dX0_rests_19 ?_
    exact gx_iret C hQ hr dX0_rests_20
  refine gj_i2l C dX0_rests_12 ?_
  refine gj_nrmL ?_
  refine gx_last C E dX0_rests_13 ?_
  refine gj_goto (tgt := 21) C dX0_rests_14 (by decide) ?_
  refine gj_iconst C dX0_rests_21 ?_
  exact gx_iret C hQ hr dX0_rests_22
def x2_init (a0 : Option Nat) : PT Hp Unit :=
  pbnd (xnn a0) fun _ =>
  pret ()
set_option maxHeartbeats 4000000 in
set_option maxRecDepth 100000 in
theorem mx2_init (l : Launch) (g : XG) (a0 : Option Nat) : XMet l g yX2_init cX2_init 1 (Option.none : Option Jvm.ClassFile.FieldType) (1) [rv g a0] (x2_init a0) rvV := by
  refine gx_start (by decide +kernel) (by have e := lg_sl_len [rv g a0]; simp only [List.map_cons, List.map_nil, List.sum_cons, List.sum_nil, rv_cat, cat_int, cat_long] at e; omega) (fun X Q σ0 hl C E hQ hR hr hnm => ?_)
  subst hl
  rw [show lv_args 0 [rv g a0] = [(0, rv g a0)] from by simp [lv_args, rv_cat, cat_int, cat_long]]
  show GJ X 1 (xWo g σ0 (cx_s X).heap) Q (x2_init a0) 0 [(0, rv g a0)] []
  unfold x2_init
  refine gx_aload_n C dX2_init_0 0 rfl ?_
  refine gx_objinit C E dX2_init_1 q187 q180 q181 hR (Nat.le_of_ble_eq_true rfl) (Nat.zero_le _) ?_
  exact gx_vret C hQ hr dX2_init_4
def j0_init (a0 : Option Nat) : PT Hp Unit :=
  pbnd (xnn a0) fun _ =>
  pret ()
set_option maxHeartbeats 4000000 in
set_option maxRecDepth 100000 in
theorem mj0_init (l : Launch) (g : XG) (a0 : Option Nat) : XMet l g yJ0_init cJ0_init 1 (Option.none : Option Jvm.ClassFile.FieldType) (1) [rv g a0] (j0_init a0) rvV := by
  refine gx_start (by decide +kernel) (by have e := lg_sl_len [rv g a0]; simp only [List.map_cons, List.map_nil, List.sum_cons, List.sum_nil, rv_cat, cat_int, cat_long] at e; omega) (fun X Q σ0 hl C E hQ hR hr hnm => ?_)
  subst hl
  rw [show lv_args 0 [rv g a0] = [(0, rv g a0)] from by simp [lv_args, rv_cat, cat_int, cat_long]]
  show GJ X 1 (xWo g σ0 (cx_s X).heap) Q (j0_init a0) 0 [(0, rv g a0)] []
  unfold j0_init
  refine gx_aload_n C dJ0_init_0 0 rfl ?_
  refine gx_objinit C E dJ0_init_1 q234 q180 q181 hR (Nat.le_of_ble_eq_true rfl) (Nat.zero_le _) ?_
  exact gx_vret C hQ hr dJ0_init_4
def j1_init (a0 : Option Nat) : PT Hp Unit :=
  pbnd (xnn a0) fun _ =>
  pbnd (j0_init a0) fun _ =>
  pbnd (xpI a0 26 0 0) fun _ =>
  pret ()
set_option maxHeartbeats 4000000 in
set_option maxRecDepth 100000 in
theorem mj1_init (l : Launch) (g : XG) (a0 : Option Nat) : XMet l g yJ1_init cJ1_init 1 (Option.none : Option Jvm.ClassFile.FieldType) (2) [rv g a0] (j1_init a0) rvV := by
  refine gx_start (by decide +kernel) (by have e := lg_sl_len [rv g a0]; simp only [List.map_cons, List.map_nil, List.sum_cons, List.sum_nil, rv_cat, cat_int, cat_long] at e; omega) (fun X Q σ0 hl C E hQ hR hr hnm => ?_)
  subst hl
  rw [show lv_args 0 [rv g a0] = [(0, rv g a0)] from by simp [lv_args, rv_cat, cat_int, cat_long]]
  show GJ X 1 (xWo g σ0 (cx_s X).heap) Q (j1_init a0) 0 [(0, rv g a0)] []
  unfold j1_init
  refine gx_aload_n C dJ1_init_0 0 rfl ?_
  refine gx_callIV (As := []) (rest := []) C E dJ1_init_1 (mj0_init (cx_l X) g a0) (lw_meth q233) q128 q231 q232 rfl hyx_J0_init hR (Nat.le_of_ble_eq_true rfl) (by decide) rfl rfl (Nat.zero_le _) ?_
  refine gx_aload_n C dJ1_init_4 0 rfl ?_
  refine gj_iconst C dJ1_init_5 ?_
  refine gx_pI (O := "java/util/AbstractList") (nm := "modCount") (ds := "I") (fin := false) (ty := .int) C E dJ1_init_6 (by decide +kernel) (Or.inl q241) (fun _ h => h) (fun h => by cases h) (by decide +kernel) (inty_int _) ?_
  exact gx_vret C hQ hr dJ1_init_9
def j2_init (a0 : Option Nat) (a1 : Int) : PT Hp Unit :=
  pbnd (xnn a0) fun _ =>
  pbnd (j1_init a0) fun _ =>
  pite (0 < w32 a1) (
    pbnd (xnewa 44 a1) fun v10 =>
    pbnd (xpR a0 26 1 v10) fun _ =>
    pret ()) (
    pite (w32 a1 = 0) (
      pbnd (xpR a0 26 1 ((some (CB + 200)))) fun _ =>
      pret ()) (
      pfail))
set_option maxHeartbeats 4000000 in
set_option maxRecDepth 100000 in
theorem mj2_init (l : Launch) (g : XG) (a0 : Option Nat) (a1 : Int) : XMet l g yJ2_init cJ2_init 2 (Option.none : Option Jvm.ClassFile.FieldType) (3) [rv g a0, .int (iI a1)] (j2_init a0 a1) rvV := by
  refine gx_start (by decide +kernel) (by have e := lg_sl_len [rv g a0, .int (iI a1)]; simp only [List.map_cons, List.map_nil, List.sum_cons, List.sum_nil, rv_cat, cat_int, cat_long] at e; omega) (fun X Q σ0 hl C E hQ hR hr hnm => ?_)
  subst hl
  rw [show lv_args 0 [rv g a0, .int (iI a1)] = [(0, rv g a0), (1, .int (iI a1))] from by simp [lv_args, rv_cat, cat_int, cat_long]]
  show GJ X 2 (xWo g σ0 (cx_s X).heap) Q (j2_init a0 a1) 0 [(0, rv g a0), (1, .int (iI a1))] []
  unfold j2_init
  refine gx_aload_n C dJ2_init_0 0 rfl ?_
  refine gx_callIV (As := []) (rest := []) C E dJ2_init_1 (mj1_init (cx_l X) g a0) (lw_meth q230) q129 q228 q229 rfl hyx_J1_init hR (Nat.le_of_ble_eq_true rfl) (by decide) rfl rfl (Nat.zero_le _) ?_
  refine gj_iload_n C dJ2_init_4 1 rfl ?_
  refine gj_if_le (tgt := 19) C dJ2_init_5 (by decide) (fun h5 => gj_neg h5 ?_) (fun h5 => gj_pos h5 ?_)
  · refine gj_iload_n C dJ2_init_19 1 rfl ?_
    refine gj_if_ne (tgt := 33) C dJ2_init_20 (by decide) (fun h20 => gj_neg h20 ?_) (fun h20 => gj_pos h20 ?_)
    · exact gj_fail
    · refine gx_aload_n C dJ2_init_23 0 rfl ?_
      refine gx_gsEE C E dJ2_init_24 q237 ?_
      refine gx_pR (O := "java/util/ArrayList") (nm := "elementData") (ds := "[Ljava/lang/Object;") (fin := false) (ty := (.array (.object "java/lang/Object"))) C E dJ2_init_27 (by decide +kernel) (Or.inl q239) (fun _ h => h) (fun h => by cases h) (by decide +kernel) (by decide) ?_
      refine gj_goto (tgt := 60) C dJ2_init_30 (by decide) ?_
      exact gx_vret C hQ hr dJ2_init_60
  · refine gx_aload_n C dJ2_init_8 0 rfl ?_
    refine gj_iload_n C dJ2_init_9 1 rfl ?_
    refine gx_anew (t0 := 4) C E dJ2_init_10 (by decide) (by decide) rfl q235 E.1.2.2.1 (fun v10 => ?_)
    refine gx_pR (O := "java/util/ArrayList") (nm := "elementData") (ds := "[Ljava/lang/Object;") (fin := false) (ty := (.array (.object "java/lang/Object"))) C E dJ2_init_13 (by decide +kernel) (Or.inl q239) (fun _ h => h) (fun h => by cases h) (by decide +kernel) (by decide) ?_
    refine gj_goto (tgt := 60) C dJ2_init_16 (by decide) ?_
    exact gx_vret C hQ hr dJ2_init_60
def x3_init (a0 : Option Nat) : PT Hp Unit :=
  pbnd (xnn a0) fun _ =>
  pbnd (xnew 26) fun v5 =>
  pbnd (xnn v5) fun _ =>
  pbnd (j2_init v5 2) fun _ =>
  pbnd (xpR a0 3 0 v5) fun _ =>
  pbnd (xpI a0 3 2 (-1)) fun _ =>
  pret ()
set_option maxHeartbeats 4000000 in
set_option maxRecDepth 100000 in
theorem mx3_init (l : Launch) (g : XG) (a0 : Option Nat) : XMet l g yX3_init cX3_init 1 (Option.none : Option Jvm.ClassFile.FieldType) (4) [rv g a0] (x3_init a0) rvV := by
  refine gx_start (by decide +kernel) (by have e := lg_sl_len [rv g a0]; simp only [List.map_cons, List.map_nil, List.sum_cons, List.sum_nil, rv_cat, cat_int, cat_long] at e; omega) (fun X Q σ0 hl C E hQ hR hr hnm => ?_)
  subst hl
  rw [show lv_args 0 [rv g a0] = [(0, rv g a0)] from by simp [lv_args, rv_cat, cat_int, cat_long]]
  show GJ X 1 (xWo g σ0 (cx_s X).heap) Q (x3_init a0) 0 [(0, rv g a0)] []
  unfold x3_init
  refine gx_aload_n C dX3_init_0 0 rfl ?_
  refine gx_objinit C E dX3_init_1 q222 q180 q181 hR (Nat.le_of_ble_eq_true rfl) (Nat.zero_le _) ?_
  refine gx_aload_n C dX3_init_4 0 rfl ?_
  refine gx_new (t0 := 26) C E dX3_init_5 rfl q223 q224 q130 (fun v5 => ?_)
  refine gx_dup C dX3_init_8 ?_
  refine gj_iconst C dX3_init_9 ?_
  refine gx_callIV (As := [.int (iI 2)]) (rest := [rv g v5, rv g a0]) C E dX3_init_10 (mj2_init (cx_l X) g v5 2) (lw_meth q227) q130 q225 q226 rfl hyx_J2_init hR (Nat.le_of_ble_eq_true rfl) (by decide) rfl rfl (by simp only [List.map_cons, List.map_nil, List.sum_cons, List.sum_nil, rv_cat, cat_int, cat_long]; decide) ?_
  refine gx_pR (O := "BorrowedLives$Town") (nm := "people") (ds := "Ljava/util/ArrayList;") (fin := true) (ty := (.object "java/util/ArrayList")) C E dX3_init_13 (by decide +kernel) (Or.inl q251) (fun _ h => h) (fun _ => ⟨hnm, rfl⟩) (by decide +kernel) (by decide) ?_
  refine gx_aload_n C dX3_init_16 0 rfl ?_
  refine gj_iconst C dX3_init_17 ?_
  refine gx_pI (O := "BorrowedLives$Town") (nm := "sign") (ds := "I") (fin := false) (ty := .int) C E dX3_init_18 (by decide +kernel) (Or.inl q257) (fun _ h => h) (fun h => by cases h) (by decide +kernel) (inty_int _) ?_
  exact gx_vret C hQ hr dX3_init_21
def x4_init (a0 : Option Nat) : PT Hp Unit :=
  pbnd (xnn a0) fun _ =>
  pbnd (xnewa 40 6) fun v7 =>
  pbnd (xpR a0 4 0 v7) fun _ =>
  pbnd (xnewa 40 6) fun v15 =>
  pbnd (xpR a0 4 1 v15) fun _ =>
  pbnd (xnewa 40 6) fun v23 =>
  pbnd (xpR a0 4 2 v23) fun _ =>
  pbnd (xnewa 40 6) fun v31 =>
  pbnd (xpR a0 4 3 v31) fun _ =>
  pbnd (xnewa 40 6) fun v39 =>
  pbnd (xpR a0 4 4 v39) fun _ =>
  pbnd (xnewa 40 6) fun v47 =>
  pbnd (xpR a0 4 5 v47) fun _ =>
  pbnd (xnewa 40 6) fun v55 =>
  pbnd (xpR a0 4 6 v55) fun _ =>
  pret ()
set_option maxHeartbeats 4000000 in
set_option maxRecDepth 100000 in
theorem mx4_init (l : Launch) (g : XG) (a0 : Option Nat) : XMet l g yX4_init cX4_init 1 (Option.none : Option Jvm.ClassFile.FieldType) (1) [rv g a0] (x4_init a0) rvV := by
  refine gx_start (by decide +kernel) (by have e := lg_sl_len [rv g a0]; simp only [List.map_cons, List.map_nil, List.sum_cons, List.sum_nil, rv_cat, cat_int, cat_long] at e; omega) (fun X Q σ0 hl C E hQ hR hr hnm => ?_)
  subst hl
  rw [show lv_args 0 [rv g a0] = [(0, rv g a0)] from by simp [lv_args, rv_cat, cat_int, cat_long]]
  show GJ X 1 (xWo g σ0 (cx_s X).heap) Q (x4_init a0) 0 [(0, rv g a0)] []
  unfold x4_init
  refine gx_aload_n C dX4_init_0 0 rfl ?_
  refine gx_objinit C E dX4_init_1 q289 q180 q181 hR (Nat.le_of_ble_eq_true rfl) (Nat.zero_le _) ?_
  refine gx_aload_n C dX4_init_4 0 rfl ?_
  refine gj_bipush C dX4_init_5 rfl ?_
  refine gx_newa (t0 := 0) C E dX4_init_7 (by decide) rfl q340 (by decide) rfl (fun v7 => ?_)
  refine gx_pR (O := "BorrowedLives$State") (nm := "purse") (ds := "[I") (fin := true) (ty := (.array .int)) C E dX4_init_9 (by decide +kernel) (Or.inl q290) (fun _ h => h) (fun _ => ⟨hnm, rfl⟩) (by decide +kernel) (by decide) ?_
  refine gx_aload_n C dX4_init_12 0 rfl ?_
  refine gj_bipush C dX4_init_13 rfl ?_
  refine gx_newa (t0 := 0) C E dX4_init_15 (by decide) rfl q340 (by decide) rfl (fun v15 => ?_)
  refine gx_pR (O := "BorrowedLives$State") (nm := "debt") (ds := "[I") (fin := true) (ty := (.array .int)) C E dX4_init_17 (by decide +kernel) (Or.inl q293) (fun _ h => h) (fun _ => ⟨hnm, rfl⟩) (by decide +kernel) (by decide) ?_
  refine gx_aload_n C dX4_init_20 0 rfl ?_
  refine gj_bipush C dX4_init_21 rfl ?_
  refine gx_newa (t0 := 0) C E dX4_init_23 (by decide) rfl q340 (by decide) rfl (fun v23 => ?_)
  refine gx_pR (O := "BorrowedLives$State") (nm := "home") (ds := "[I") (fin := true) (ty := (.array .int)) C E dX4_init_25 (by decide +kernel) (Or.inl q295) (fun _ h => h) (fun _ => ⟨hnm, rfl⟩) (by decide +kernel) (by decide) ?_
  refine gx_aload_n C dX4_init_28 0 rfl ?_
  refine gj_bipush C dX4_init_29 rfl ?_
  refine gx_newa (t0 := 0) C E dX4_init_31 (by decide) rfl q340 (by decide) rfl (fun v31 => ?_)
  refine gx_pR (O := "BorrowedLives$State") (nm := "hidden") (ds := "[I") (fin := true) (ty := (.array .int)) C E dX4_init_33 (by decide +kernel) (Or.inl q297) (fun _ h => h) (fun _ => ⟨hnm, rfl⟩) (by decide +kernel) (by decide) ?_
  refine gx_aload_n C dX4_init_36 0 rfl ?_
  refine gj_bipush C dX4_init_37 rfl ?_
  refine gx_newa (t0 := 0) C E dX4_init_39 (by decide) rfl q340 (by decide) rfl (fun v39 => ?_)
  refine gx_pR (O := "BorrowedLives$State") (nm := "had") (ds := "[I") (fin := true) (ty := (.array .int)) C E dX4_init_41 (by decide +kernel) (Or.inl q300) (fun _ h => h) (fun _ => ⟨hnm, rfl⟩) (by decide +kernel) (by decide) ?_
  refine gx_aload_n C dX4_init_44 0 rfl ?_
  refine gj_bipush C dX4_init_45 rfl ?_
  refine gx_newa (t0 := 0) C E dX4_init_47 (by decide) rfl q340 (by decide) rfl (fun v47 => ?_)
  refine gx_pR (O := "BorrowedLives$State") (nm := "neat") (ds := "[I") (fin := true) (ty := (.array .int)) C E dX4_init_49 (by decide +kernel) (Or.inl q301) (fun _ h => h) (fun _ => ⟨hnm, rfl⟩) (by decide +kernel) (by decide) ?_
  refine gx_aload_n C dX4_init_52 0 rfl ?_
  refine gj_bipush C dX4_init_53 rfl ?_
  refine gx_newa (t0 := 0) C E dX4_init_55 (by decide) rfl q340 (by decide) rfl (fun v55 => ?_)
  refine gx_pR (O := "BorrowedLives$State") (nm := "self") (ds := "[I") (fin := true) (ty := (.array .int)) C E dX4_init_57 (by decide +kernel) (Or.inl q302) (fun _ h => h) (fun _ => ⟨hnm, rfl⟩) (by decide +kernel) (by decide) ?_
  exact gx_vret C hQ hr dX4_init_60
def x4_allAreHome_b2 (a0 : Option Nat) (a1 : Int) (bk2 : (Int) → PT Hp Unit) : PT Hp Unit :=
  pite (w32 a1 < 6) (
    pbnd (xgR a0 4 6) fun v9 =>
    pbnd (xst v9 40 a1 (w32 a1)) fun _ =>
    pbnd (xgR a0 4 3) fun v16 =>
    pbnd (xst v16 40 a1 0) fun _ =>
    bk2 (a1 + 1)) (
    pbnd (pzo 0) fun _ =>
    pbnd (xpI a0 4 7 0) fun _ =>
    pbnd (xpI a0 4 8 0) fun _ =>
    pret ())
def x4_allAreHome_l2 (a0 : Option Nat) (a1 : Int) : PT Hp Unit :=
  ploop (fun (s : (Int)) bk2 => x4_allAreHome_b2 a0 s bk2) (a1)
def x4_allAreHome (a0 : Option Nat) : PT Hp Unit :=
  x4_allAreHome_l2 a0 0
set_option maxHeartbeats 4000000 in
set_option maxRecDepth 100000 in
theorem mx4_allAreHome (l : Launch) (g : XG) (a0 : Option Nat) : XMet l g yX4_allAreHome cX4_allAreHome 2 (Option.none : Option Jvm.ClassFile.FieldType) (0) [rv g a0] (x4_allAreHome a0) rvV := by
  refine gx_start (by decide +kernel) (by have e := lg_sl_len [rv g a0]; simp only [List.map_cons, List.map_nil, List.sum_cons, List.sum_nil, rv_cat, cat_int, cat_long] at e; omega) (fun X Q σ0 hl C E hQ hR hr hnm => ?_)
  subst hl
  rw [show lv_args 0 [rv g a0] = [(0, rv g a0)] from by simp [lv_args, rv_cat, cat_int, cat_long]]
  show GJ X 2 (xWo g σ0 (cx_s X).heap) Q (x4_allAreHome a0) 0 [(0, rv g a0)] []
  have J2 : ∀ (a0 : Option Nat) (a1 : Int), GJ X 2 (xWo g σ0 (cx_s X).heap) Q (x4_allAreHome_l2 a0 a1) 2 [(0, rv g a0), (1, .int (iI a1))] [] := by
    intro a0 a1
    unfold x4_allAreHome_l2
    refine gj_loop (fun (s : (Int)) => [(0, rv g a0), (1, .int (iI s))]) (a1) (fun bk2 hb2 s => ?_)
    obtain ⟨a1, rfl⟩ : ∃ z, z = s := ⟨s, rfl⟩
    show GJ X 2 (xWo g σ0 (cx_s X).heap) Q (x4_allAreHome_b2 a0 a1 bk2) 2 [(0, rv g a0), (1, .int (iI a1))] []
    unfold x4_allAreHome_b2
    refine gj_iload_n C dX4_allAreHome_2 1 rfl ?_
    refine gj_bipush C dX4_allAreHome_3 rfl ?_
    refine gj_icmp_ge (tgt := 28) (b' := 6) C dX4_allAreHome_5 (by decide) rfl (by decide) (fun h5 => gj_neg h5 ?_) (fun h5 => gj_pos h5 ?_)
    · refine gx_aload_n C dX4_allAreHome_28 0 rfl ?_
      refine gj_iconst C dX4_allAreHome_29 ?_
      refine gx_pzo (fun hz30 => ?_)
      refine gx_pI (O := "BorrowedLives$State") (nm := "away") (ds := "Z") (fin := false) (ty := .boolean) C E dX4_allAreHome_30 (by decide +kernel) (Or.inl q308) (fun _ h => h) (fun h => by cases h) (by decide +kernel) (inty_z hz30) ?_
      refine gx_aload_n C dX4_allAreHome_33 0 rfl ?_
      refine gj_iconst C dX4_allAreHome_34 ?_
      refine gx_pI (O := "BorrowedLives$State") (nm := "days") (ds := "I") (fin := false) (ty := .int) C E dX4_allAreHome_35 (by decide +kernel) (Or.inl q311) (fun _ h => h) (fun h => by cases h) (by decide +kernel) (inty_int _) ?_
      exact gx_vret C hQ hr dX4_allAreHome_38
    · refine gx_aload_n C dX4_allAreHome_8 0 rfl ?_
      refine gx_gR (O := "BorrowedLives$State") (nm := "self") (ds := "[I") (fin := true) C E dX4_allAreHome_9 (by decide +kernel) (Or.inl q302) (fun _ h => h) (fun v9 => ?_)
      refine gj_iload_n C dX4_allAreHome_12 1 rfl ?_
      refine gj_iload_n C dX4_allAreHome_13 1 rfl ?_
      refine gj_nrmI ?_
      refine gx_iast C E dX4_allAreHome_14 ?_
      refine gx_aload_n C dX4_allAreHome_15 0 rfl ?_
      refine gx_gR (O := "BorrowedLives$State") (nm := "hidden") (ds := "[I") (fin := true) C E dX4_allAreHome_16 (by decide +kernel) (Or.inl q297) (fun _ h => h) (fun v16 => ?_)
      refine gj_iload_n C dX4_allAreHome_19 1 rfl ?_
      refine gj_iconst C dX4_allAreHome_20 ?_
      refine gx_iast C E dX4_allAreHome_21 ?_
      refine gj_iinc (L' := [(1, .int (iI ((a1 + 1)))), (0, rv g a0)]) C dX4_allAreHome_22 1 rfl (by decide) (by simp [List.filter, rv_cat, cat_int, cat_long, fin4_3]) ?_
      refine gj_goto (tgt := 2) C dX4_allAreHome_25 (by decide) ?_
      exact gj_to [1, 0] (hb2 (a1 + 1)) rfl
  unfold x4_allAreHome
  refine gj_iconst C dX4_allAreHome_0 ?_
  refine gj_istore_n (L' := [(1, .int (iI 0)), (0, rv g a0)]) C dX4_allAreHome_1 (by decide) (by simp [List.filter, rv_cat, cat_int, cat_long, fin4_3]) ?_
  exact gj_to [1, 0] (J2 a0 0) rfl
def x4_begin_j108 (a0 a1 : Option Nat) (a2 : Int) (s0 : Option Nat) (s1 s2 : Int) (bk2 : (Int) → PT Hp Unit) : PT Hp Unit :=
  pbnd (xst s0 40 s1 (w32 s2)) fun _ =>
  bk2 (a2 + 1)
def x4_begin_j80 (a0 a1 : Option Nat) (a2 a3 : Int) (s0 : Option Nat) (s1 s2 : Int) (bk2 : (Int) → PT Hp Unit) : PT Hp Unit :=
  pbnd (xst s0 40 s1 (w32 s2)) fun _ =>
  pbnd (xgR a0 4 2) fun v82 =>
  pite (w32 a3 = 0) (
    x4_begin_j108 a0 a1 a2 v82 a2 0 bk2) (
    pbnd (xgR a1 3 0) fun v91 =>
    pbnd (xrecv v91 26) fun _ =>
    pbnd (j2_get v91 a2) fun v95 =>
    pbnd (xcast v95 [6, 7, 8, 9]) fun _ =>
    pbnd (xgIs v95 [6, 7, 8, 9] 4) fun v101 =>
    x4_begin_j108 a0 a1 a2 v82 a2 v101 bk2)
def x4_begin_j52 (a0 a1 : Option Nat) (a2 a3 : Int) (s0 : Option Nat) (s1 s2 : Int) (bk2 : (Int) → PT Hp Unit) : PT Hp Unit :=
  pbnd (xst s0 40 s1 (w32 s2)) fun _ =>
  pbnd (xgR a0 4 1) fun v54 =>
  pite (w32 a3 = 0) (
    x4_begin_j80 a0 a1 a2 a3 v54 a2 0 bk2) (
    pbnd (xgR a1 3 0) fun v63 =>
    pbnd (xrecv v63 26) fun _ =>
    pbnd (j2_get v63 a2) fun v67 =>
    pbnd (xcast v67 [6, 7, 8, 9]) fun _ =>
    pbnd (xgIs v67 [6, 7, 8, 9] 3) fun v73 =>
    x4_begin_j80 a0 a1 a2 a3 v54 a2 v73 bk2)
def x4_begin_b2 (a0 a1 : Option Nat) (a2 : Int) (bk2 : (Int) → PT Hp Unit) : PT Hp Unit :=
  pite (w32 a2 < 6) (
    pbnd (xgR a1 3 0) fun v10 =>
    pbnd (xrecv v10 26) fun _ =>
    pbnd (j2_size v10) fun v13 =>
    plet (if w32 a2 < w32 v13 then 1 else 0) fun d24 =>
    pbnd (xgR a0 4 0) fun v26 =>
    pite (w32 d24 = 0) (
      x4_begin_j52 a0 a1 a2 d24 v26 a2 0 bk2) (
      pbnd (xgR a1 3 0) fun v35 =>
      pbnd (xrecv v35 26) fun _ =>
      pbnd (j2_get v35 a2) fun v39 =>
      pbnd (xcast v39 [6, 7, 8, 9]) fun _ =>
      pbnd (xgIs v39 [6, 7, 8, 9] 2) fun v45 =>
      x4_begin_j52 a0 a1 a2 d24 v26 a2 v45 bk2)) (
    pbnd (xpI a0 4 9 0) fun _ =>
    pbnd (xpI a0 4 10 0) fun _ =>
    pbnd (xrecv a0 4) fun _ =>
    pbnd (x4_allAreHome a0) fun _ =>
    pret ())
def x4_begin_l2 (a0 a1 : Option Nat) (a2 : Int) : PT Hp Unit :=
  ploop (fun (s : (Int)) bk2 => x4_begin_b2 a0 a1 s bk2) (a2)
def x4_begin (a0 a1 : Option Nat) : PT Hp Unit :=
  x4_begin_l2 a0 a1 0
set_option maxHeartbeats 4000000 in
set_option maxRecDepth 100000 in
theorem mx4_begin (l : Launch) (g : XG) (a0 a1 : Option Nat) : XMet l g yX4_begin cX4_begin 4 (Option.none : Option Jvm.ClassFile.FieldType) (3) [rv g a0, rv g a1] (x4_begin a0 a1) rvV := by
  refine gx_start (by decide +kernel) (by have e := lg_sl_len [rv g a0, rv g a1]; simp only [List.map_cons, List.map_nil, List.sum_cons, List.sum_nil, rv_cat, cat_int, cat_long] at e; omega) (fun X Q σ0 hl C E hQ hR hr hnm => ?_)
  subst hl
  rw [show lv_args 0 [rv g a0, rv g a1] = [(0, rv g a0), (1, rv g a1)] from by simp [lv_args, rv_cat, cat_int, cat_long]]
  show GJ X 4 (xWo g σ0 (cx_s X).heap) Q (x4_begin a0 a1) 0 [(0, rv g a0), (1, rv g a1)] []
  have J2 : ∀ (a0 a1 : Option Nat) (a2 : Int), GJ X 4 (xWo g σ0 (cx_s X).heap) Q (x4_begin_l2 a0 a1 a2) 2 [(0, rv g a0), (1, rv g a1), (2, .int (iI a2))] [] := by
    intro a0 a1 a2
    unfold x4_begin_l2
    refine gj_loop (fun (s : (Int)) => [(0, rv g a0), (1, rv g a1), (2, .int (iI s))]) (a2) (fun bk2 hb2 s => ?_)
    obtain ⟨a2, rfl⟩ : ∃ z, z = s := ⟨s, rfl⟩
    show GJ X 4 (xWo g σ0 (cx_s X).heap) Q (x4_begin_b2 a0 a1 a2 bk2) 2 [(0, rv g a0), (1, rv g a1), (2, .int (iI a2))] []
    have J108 : ∀ (a2 : Int) (s0 : Option Nat) (s1 s2 : Int), GJ X 4 (xWo g σ0 (cx_s X).heap) Q (x4_begin_j108 a0 a1 a2 s0 s1 s2 bk2) 108 [(0, rv g a0), (1, rv g a1), (2, .int (iI a2))] [.int (iI s2), .int (iI s1), rv g s0] := by
      intro a2 s0 s1 s2
      unfold x4_begin_j108
      refine gj_nrmI ?_
      refine gx_iast C E dX4_begin_108 ?_
      refine gj_iinc (L' := [(2, .int (iI ((a2 + 1)))), (0, rv g a0), (1, rv g a1)]) C dX4_begin_109 2 rfl (by decide) (by simp [List.filter, rv_cat, cat_int, cat_long, fin4_3]) ?_
      refine gj_goto (tgt := 2) C dX4_begin_112 (by decide) ?_
      exact gj_to [1, 2, 0] (hb2 (a2 + 1)) rfl
    have J80 : ∀ (a2 a3 : Int) (s0 : Option Nat) (s1 s2 : Int), GJ X 4 (xWo g σ0 (cx_s X).heap) Q (x4_begin_j80 a0 a1 a2 a3 s0 s1 s2 bk2) 80 [(0, rv g a0), (1, rv g a1), (2, .int (iI a2)), (3, .int (iI a3))] [.int (iI s2), .int (iI s1), rv g s0] := by
      intro a2 a3 s0 s1 s2
      unfold x4_begin_j80
      refine gj_nrmI ?_
      refine gx_iast C E dX4_begin_80 ?_
      refine gx_aload_n C dX4_begin_81 0 rfl ?_
      refine gx_gR (O := "BorrowedLives$State") (nm := "home") (ds := "[I") (fin := true) C E dX4_begin_82 (by decide +kernel) (Or.inl q295) (fun _ h => h) (fun v82 => ?_)
      refine gj_iload_n C dX4_begin_85 2 rfl ?_
      refine gj_iload_n C dX4_begin_86 3 rfl ?_
      refine gj_if_eq (tgt := 107) C dX4_begin_87 (by decide) (fun h87 => gj_pos h87 ?_) (fun h87 => gj_neg h87 ?_)
      · refine gj_iconst C dX4_begin_107 ?_
        exact gj_to [0, 1, 2] (J108 a2 v82 a2 0) rfl
      · refine gx_aload_n C dX4_begin_90 1 rfl ?_
        refine gx_gR (O := "BorrowedLives$Town") (nm := "people") (ds := "Ljava/util/ArrayList;") (fin := true) C E dX4_begin_91 (by decide +kernel) (Or.inr ⟨_, q252⟩) (fun _ h => h) (fun v91 => ?_)
        refine gj_iload_n C dX4_begin_94 2 rfl ?_
        refine gx_callVR (t0 := 26) (As := [.int (iI a2)]) (rest := [.int (iI a2), rv g v82]) C E rfl dX4_begin_95 (mj2_get (cx_l X) g v91 a2) (lw_V q354 q355 q356 q130 q357) hyx_J2_get rfl hR (Nat.le_of_ble_eq_true rfl) (by decide) rfl rfl (by simp only [List.map_cons, List.map_nil, List.sum_cons, List.sum_nil, rv_cat, cat_int, cat_long]; decide) (fun v95 => ?_)
        refine gx_cast C E dX4_begin_98 q368 xc_BorrowedLives_Person ?_
        refine gx_gIs (O := "BorrowedLives$Person") (nm := "home") (ds := "I") (fin := false) C E dX4_begin_101 (by decide +kernel) (Or.inl q885) (fun _ h => h) (fun v101 => ?_)
        refine gj_goto (tgt := 108) C dX4_begin_104 (by decide) ?_
        exact gj_to [0, 1, 2] (J108 a2 v82 a2 v101) rfl
    have J52 : ∀ (a2 a3 : Int) (s0 : Option Nat) (s1 s2 : Int), GJ X 4 (xWo g σ0 (cx_s X).heap) Q (x4_begin_j52 a0 a1 a2 a3 s0 s1 s2 bk2) 52 [(0, rv g a0), (1, rv g a1), (2, .int (iI a2)), (3, .int (iI a3))] [.int (iI s2), .int (iI s1), rv g s0] := by
      intro a2 a3 s0 s1 s2
      unfold x4_begin_j52
      refine gj_nrmI ?_
      refine gx_iast C E dX4_begin_52 ?_
      refine gx_aload_n C dX4_begin_53 0 rfl ?_
      refine gx_gR (O := "BorrowedLives$State") (nm := "debt") (ds := "[I") (fin := true) C E dX4_begin_54 (by decide +kernel) (Or.inl q293) (fun _ h => h) (fun v54 => ?_)
      refine gj_iload_n C dX4_begin_57 2 rfl ?_
      refine gj_iload_n C dX4_begin_58 3 rfl ?_
      refine gj_if_eq (tgt := 79) C dX4_begin_59 (by decide) (fun h59 => gj_pos h59 ?_) (fun h59 => gj_neg h59 ?_)
      · refine gj_iconst C dX4_begin_79 ?_
        exact gj_to [0, 1, 2, 3] (J80 a2 a3 v54 a2 0) rfl
      · refine gx_aload_n C dX4_begin_62 1 rfl ?_
        refine gx_gR (O := "BorrowedLives$Town") (nm := "people") (ds := "Ljava/util/ArrayList;") (fin := true) C E dX4_begin_63 (by decide +kernel) (Or.inr ⟨_, q252⟩) (fun _ h => h) (fun v63 => ?_)
        refine gj_iload_n C dX4_begin_66 2 rfl ?_
        refine gx_callVR (t0 := 26) (As := [.int (iI a2)]) (rest := [.int (iI a2), rv g v54]) C E rfl dX4_begin_67 (mj2_get (cx_l X) g v63 a2) (lw_V q354 q355 q356 q130 q357) hyx_J2_get rfl hR (Nat.le_of_ble_eq_true rfl) (by decide) rfl rfl (by simp only [List.map_cons, List.map_nil, List.sum_cons, List.sum_nil, rv_cat, cat_int, cat_long]; decide) (fun v67 => ?_)
        refine gx_cast C E dX4_begin_70 q368 xc_BorrowedLives_Person ?_
        refine gx_gIs (O := "BorrowedLives$Person") (nm := "debt") (ds := "I") (fin := false) C E dX4_begin_73 (by decide +kernel) (Or.inl q883) (fun _ h => h) (fun v73 => ?_)
        refine gj_goto (tgt := 80) C dX4_begin_76 (by decide) ?_
        exact gj_to [0, 1, 2, 3] (J80 a2 a3 v54 a2 v73) rfl
    unfold x4_begin_b2
    refine gj_iload_n C dX4_begin_2 2 rfl ?_
    refine gj_bipush C dX4_begin_3 rfl ?_
    refine gj_icmp_ge (tgt := 115) (b' := 6) C dX4_begin_5 (by decide) rfl (by decide) (fun h5 => gj_neg h5 ?_) (fun h5 => gj_pos h5 ?_)
    · refine gx_aload_n C dX4_begin_115 0 rfl ?_
      refine gj_iconst C dX4_begin_116 ?_
      refine gx_pI (O := "BorrowedLives$State") (nm := "homes") (ds := "I") (fin := false) (ty := .int) C E dX4_begin_117 (by decide +kernel) (Or.inl q313) (fun _ h => h) (fun h => by cases h) (by decide +kernel) (inty_int _) ?_
      refine gx_aload_n C dX4_begin_120 0 rfl ?_
      refine gj_iconst C dX4_begin_121 ?_
      refine gx_pI (O := "BorrowedLives$State") (nm := "harm") (ds := "I") (fin := false) (ty := .int) C E dX4_begin_122 (by decide +kernel) (Or.inl q315) (fun _ h => h) (fun h => by cases h) (by decide +kernel) (inty_int _) ?_
      refine gx_aload_n C dX4_begin_125 0 rfl ?_
      refine gx_callVV (t0 := 4) (As := []) (rest := []) C E rfl dX4_begin_126 (mx4_allAreHome (cx_l X) g a0) (lw_V q369 q370 q371 q131 q372) hyx_X4_allAreHome rfl hR (Nat.le_of_ble_eq_true rfl) (by decide) rfl rfl (Nat.zero_le _) ?_
      exact gx_vret C hQ hr dX4_begin_129
    · refine gj_iload_n C dX4_begin_8 2 rfl ?_
      refine gx_aload_n C dX4_begin_9 1 rfl ?_
      refine gx_gR (O := "BorrowedLives$Town") (nm := "people") (ds := "Ljava/util/ArrayList;") (fin := true) C E dX4_begin_10 (by decide +kernel) (Or.inr ⟨_, q252⟩) (fun _ h => h) (fun v10 => ?_)
      refine gx_callVI (t0 := 26) (As := []) (rest := [.int (iI a2)]) C E rfl dX4_begin_13 (mj2_size (cx_l X) g v10) (lw_V q350 q351 q352 q130 q353) hyx_J2_size rfl hR (Nat.le_of_ble_eq_true rfl) (by decide) rfl rfl (Nat.le_of_ble_eq_true rfl) (fun v13 => ?_)
      refine gj_dia (J := 24) (L := [(0, rv g a0), (1, rv g a1), (2, .int (iI a2))]) (st := []) (fun d24 => ?_) (fun t hJ => ?_)
      · skip
        refine gj_istore_n (L' := [(3, _), (0, _), (1, _), (2, _)]) C dX4_begin_24 (by decide) rfl ?_
        refine gx_aload_n C dX4_begin_25 1 rfl ?_
        refine gx_gR (O := "BorrowedLives$State") (nm := "purse") (ds := "[I") (fin := true) C E dX4_begin_26 (by decide +kernel) (Or.inl q290) (fun _ h => h) (fun v26 => ?_)
        refine gj_iload_n C dX4_begin_29 3 rfl ?_
        refine gj_iload_n C dX4_begin_30 0 rfl ?_
        refine gj_if_eq (tgt := 51) C dX4_begin_31 (by decide) (fun h31 => gj_pos h31 ?_) (fun h31 => gj_neg h31 ?_)
        · refine gj_iconst C dX4_begin_51 ?_
          exact gj_to [1, 2, 3, 0] (J52 a2 d24 v26 a2 0) rfl
        · refine gx_aload_n C dX4_begin_34 2 rfl ?_
          refine gx_gR (O := "BorrowedLives$Town") (nm := "people") (ds := "Ljava/util/ArrayList;") (fin := true) C E dX4_begin_35 (by decide +kernel) (Or.inr ⟨_, q252⟩) (fun _ h => h) (fun v35 => ?_)
          refine gj_iload_n C dX4_begin_38 3 rfl ?_
          refine gx_callVR (t0 := 26) (As := [.int (iI a2)]) (rest := [.int (iI a2), rv g v26]) C E rfl dX4_begin_39 (mj2_get (cx_l X) g v35 a2) (lw_V q354 q355 q356 q130 q357) hyx_J2_get rfl hR (Nat.le_of_ble_eq_true rfl) (by decide) rfl rfl (by simp only [List.map_cons, List.map_nil, List.sum_cons, List.sum_nil, rv_cat, cat_int, cat_long]; decide) (fun v39 => ?_)
          refine gx_cast C E dX4_begin_42 q368 xc_BorrowedLives_Person ?_
          refine gx_gIs (O := "BorrowedLives$Person") (nm := "purse") (ds := "I") (fin := false) C E dX4_begin_45 (by decide +kernel) (Or.inl q881) (fun _ h => h) (fun v45 => ?_)
          refine gj_goto (tgt := 52) C dX4_begin_48 (by decide) ?_
          exact gj_to [1, 2, 3, 0] (J52 a2 d24 v26 a2 v45) rfl
      · refine gj_icmp_ge (tgt := 23) C dX4_begin_16 (by decide) rfl rfl (fun h16 => ?_) (fun h16 => ?_)
        · refine gj_iconst C dX4_begin_23 ?_
          exact (by rw [if_neg h16] at hJ; exact hJ)
        · refine gj_iconst C dX4_begin_19 ?_
          refine gj_goto (tgt := 24) C dX4_begin_20 (by decide) ?_
          exact (by rw [if_pos h16] at hJ; exact hJ)
  unfold x4_begin
  refine gj_iconst C dX4_begin_0 ?_
  refine gj_istore_n (L' := [(2, .int (iI 0)), (0, rv g a0), (1, rv g a1)]) C dX4_begin_1 (by decide) (by simp [List.filter, rv_cat, cat_int, cat_long, fin4_3]) ?_
  exact gj_to [1, 2, 0] (J2 a0 a1 0) rfl
def x1_init (a0 : Option Nat) : PT Hp Unit :=
  pbnd (xnn a0) fun _ =>
  pbnd (xnewa 43 1000) fun v8 =>
  pbnd (xpR a0 1 0 v8) fun _ =>
  pbnd (xnew 2) fun v14 =>
  pbnd (xnn v14) fun _ =>
  pbnd (x2_init v14) fun _ =>
  pbnd (xpR a0 1 1 v14) fun _ =>
  pbnd (xnew 3) fun v25 =>
  pbnd (xnn v25) fun _ =>
  pbnd (x3_init v25) fun _ =>
  pbnd (xpR a0 1 2 v25) fun _ =>
  pbnd (xnew 26) fun v36 =>
  pbnd (xnn v36) fun _ =>
  pbnd (j2_init v36 0) fun _ =>
  pbnd (xpR a0 1 3 v36) fun _ =>
  pbnd (xnew 4) fun v48 =>
  pbnd (xnn v48) fun _ =>
  pbnd (x4_init v48) fun _ =>
  pbnd (xpR a0 1 4 v48) fun _ =>
  pbnd (xnew 4) fun v59 =>
  pbnd (xnn v59) fun _ =>
  pbnd (x4_init v59) fun _ =>
  pbnd (xpR a0 1 5 v59) fun _ =>
  pbnd (xnew 4) fun v70 =>
  pbnd (xnn v70) fun _ =>
  pbnd (x4_init v70) fun _ =>
  pbnd (xpR a0 1 6 v70) fun _ =>
  pbnd (xnewa 40 5) fun v82 =>
  pbnd (xpR a0 1 7 v82) fun _ =>
  pbnd (xnewa 40 6) fun v90 =>
  pbnd (xpR a0 1 9 v90) fun _ =>
  pbnd (xnewa 45 16) fun v98 =>
  pbnd (xpR a0 1 10 v98) fun _ =>
  pbnd (xnewa 40 6) fun v107 =>
  pbnd (xpR a0 1 13 v107) fun _ =>
  pbnd (xnewa 40 6) fun v115 =>
  pbnd (xpR a0 1 14 v115) fun _ =>
  pbnd (xnewa 40 8) fun v123 =>
  pbnd (xpR a0 1 16 v123) fun _ =>
  pbnd (xnewa 40 8) fun v131 =>
  pbnd (xpR a0 1 17 v131) fun _ =>
  pbnd (xnewa 40 8) fun v139 =>
  pbnd (xpR a0 1 18 v139) fun _ =>
  pbnd (xnewg 8 6) fun v149 =>
  pbnd (xpR a0 1 20 v149) fun _ =>
  pbnd (xnewa 40 10000) fun v160 =>
  pbnd (xpR a0 1 21 v160) fun _ =>
  pbnd (xnewa 46 4) fun v167 =>
  pbnd (xpR a0 1 22 v167) fun _ =>
  pbnd (xgR a0 1 4) fun v174 =>
  pbnd (xgR a0 1 2) fun v178 =>
  pbnd (xrecv v174 4) fun _ =>
  pbnd (x4_begin v174 v178) fun _ =>
  pret ()
set_option maxHeartbeats 4000000 in
set_option maxRecDepth 100000 in
theorem mx1_init (l : Launch) (g : XG) (a0 : Option Nat) : XMet l g yX1_init cX1_init 1 (Option.none : Option Jvm.ClassFile.FieldType) (5) [rv g a0] (x1_init a0) rvV := by
  refine gx_start (by decide +kernel) (by have e := lg_sl_len [rv g a0]; simp only [List.map_cons, List.map_nil, List.sum_cons, List.sum_nil, rv_cat, cat_int, cat_long] at e; omega) (fun X Q σ0 hl C E hQ hR hr hnm => ?_)
  subst hl
  rw [show lv_args 0 [rv g a0] = [(0, rv g a0)] from by simp [lv_args, rv_cat, cat_int, cat_long]]
  show GJ X 1 (xWo g σ0 (cx_s X).heap) Q (x1_init a0) 0 [(0, rv g a0)] []
  unfold x1_init
  refine gx_aload_n C dX1_init_0 0 rfl ?_
  refine gx_objinit C E dX1_init_1 q179 q180 q181 hR (Nat.le_of_ble_eq_true rfl) (Nat.zero_le _) ?_
  refine gx_aload_n C dX1_init_4 0 rfl ?_
  refine gj_sipush C dX1_init_5 rfl ?_
  refine gx_newa (t0 := 3) C E dX1_init_8 (by decide) rfl q216 (by decide) rfl (fun v8 => ?_)
  refine gx_pR (O := "BorrowedLives") (nm := "tape") (ds := "[B") (fin := true) (ty := (.array .byte)) C E dX1_init_10 (by decide +kernel) (Or.inl q373) (fun _ h => h) (fun _ => ⟨hnm, rfl⟩) (by decide +kernel) (by decide) ?_
  refine gx_aload_n C dX1_init_13 0 rfl ?_
  refine gx_new (t0 := 2) C E dX1_init_14 rfl q182 q183 q126 (fun v14 => ?_)
  refine gx_dup C dX1_init_17 ?_
  refine gx_callINV (As := []) (rest := [rv g v14, rv g a0]) C E dX1_init_18 (mx2_init (cx_l X) g v14) (lw_meth q186) q126 q184 q185 rfl hyx_X2_init hR (Nat.le_of_ble_eq_true rfl) (by decide) rfl rfl (by simp only [List.map_cons, List.map_nil, List.sum_cons, List.sum_nil, rv_cat, cat_int, cat_long]; decide) ?_
  refine gx_pR (O := "BorrowedLives") (nm := "reader") (ds := "LBorrowedLives$Reader;") (fin := true) (ty := (.object "BorrowedLives$Reader")) C E dX1_init_21 (by decide +kernel) (Or.inl q374) (fun _ h => h) (fun _ => ⟨hnm, rfl⟩) (by decide +kernel) (by decide) ?_
  refine gx_aload_n C dX1_init_24 0 rfl ?_
  refine gx_new (t0 := 3) C E dX1_init_25 rfl q217 q218 q127 (fun v25 => ?_)
  refine gx_dup C dX1_init_28 ?_
  refine gx_callINV (As := []) (rest := [rv g v25, rv g a0]) C E dX1_init_29 (mx3_init (cx_l X) g v25) (lw_meth q221) q127 q219 q220 rfl hyx_X3_init hR (Nat.le_of_ble_eq_true rfl) (by decide) rfl rfl (by simp only [List.map_cons, List.map_nil, List.sum_cons, List.sum_nil, rv_cat, cat_int, cat_long]; decide) ?_
  refine gx_pR (O := "BorrowedLives") (nm := "town") (ds := "LBorrowedLives$Town;") (fin := false) (ty := (.object "BorrowedLives$Town")) C E dX1_init_32 (by decide +kernel) (Or.inl q377) (fun _ h => h) (fun h => by cases h) (by decide +kernel) (by decide) ?_
  refine gx_aload_n C dX1_init_35 0 rfl ?_
  refine gx_new (t0 := 26) C E dX1_init_36 rfl q282 q224 q130 (fun v36 => ?_)
  refine gx_dup C dX1_init_39 ?_
  refine gj_iconst C dX1_init_40 ?_
  refine gx_callIV (As := [.int (iI 0)]) (rest := [rv g v36, rv g a0]) C E dX1_init_41 (mj2_init (cx_l X) g v36 0) (lw_meth q227) q130 q283 q226 rfl hyx_J2_init hR (Nat.le_of_ble_eq_true rfl) (by decide) rfl rfl (by simp only [List.map_cons, List.map_nil, List.sum_cons, List.sum_nil, rv_cat, cat_int, cat_long]; decide) ?_
  refine gx_pR (O := "BorrowedLives") (nm := "lines") (ds := "Ljava/util/ArrayList;") (fin := false) (ty := (.object "java/util/ArrayList")) C E dX1_init_44 (by decide +kernel) (Or.inl q378) (fun _ h => h) (fun h => by cases h) (by decide +kernel) (by decide) ?_
  refine gx_aload_n C dX1_init_47 0 rfl ?_
  refine gx_new (t0 := 4) C E dX1_init_48 rfl q284 q285 q131 (fun v48 => ?_)
  refine gx_dup C dX1_init_51 ?_
  refine gx_callINV (As := []) (rest := [rv g v48, rv g a0]) C E dX1_init_52 (mx4_init (cx_l X) g v48) (lw_meth q288) q131 q286 q287 rfl hyx_X4_init hR (Nat.le_of_ble_eq_true rfl) (by decide) rfl rfl (by simp only [List.map_cons, List.map_nil, List.sum_cons, List.sum_nil, rv_cat, cat_int, cat_long]; decide) ?_
  refine gx_pR (O := "BorrowedLives") (nm := "state") (ds := "LBorrowedLives$State;") (fin := true) (ty := (.object "BorrowedLives$State")) C E dX1_init_55 (by decide +kernel) (Or.inl q380) (fun _ h => h) (fun _ => ⟨hnm, rfl⟩) (by decide +kernel) (by decide) ?_
  refine gx_aload_n C dX1_init_58 0 rfl ?_
  refine gx_new (t0 := 4) C E dX1_init_59 rfl q284 q285 q131 (fun v59 => ?_)
  refine gx_dup C dX1_init_62 ?_
  refine gx_callINV (As := []) (rest := [rv g v59, rv g a0]) C E dX1_init_63 (mx4_init (cx_l X) g v59) (lw_meth q288) q131 q286 q287 rfl hyx_X4_init hR (Nat.le_of_ble_eq_true rfl) (by decide) rfl rfl (by simp only [List.map_cons, List.map_nil, List.sum_cons, List.sum_nil, rv_cat, cat_int, cat_long]; decide) ?_
  refine gx_pR (O := "BorrowedLives") (nm := "trial") (ds := "LBorrowedLives$State;") (fin := true) (ty := (.object "BorrowedLives$State")) C E dX1_init_66 (by decide +kernel) (Or.inl q382) (fun _ h => h) (fun _ => ⟨hnm, rfl⟩) (by decide +kernel) (by decide) ?_
  refine gx_aload_n C dX1_init_69 0 rfl ?_
  refine gx_new (t0 := 4) C E dX1_init_70 rfl q284 q285 q131 (fun v70 => ?_)
  refine gx_dup C dX1_init_73 ?_
  refine gx_callINV (As := []) (rest := [rv g v70, rv g a0]) C E dX1_init_74 (mx4_init (cx_l X) g v70) (lw_meth q288) q131 q286 q287 rfl hyx_X4_init hR (Nat.le_of_ble_eq_true rfl) (by decide) rfl rfl (by simp only [List.map_cons, List.map_nil, List.sum_cons, List.sum_nil, rv_cat, cat_int, cat_long]; decide) ?_
  refine gx_pR (O := "BorrowedLives") (nm := "week") (ds := "LBorrowedLives$State;") (fin := true) (ty := (.object "BorrowedLives$State")) C E dX1_init_77 (by decide +kernel) (Or.inl q386) (fun _ h => h) (fun _ => ⟨hnm, rfl⟩) (by decide +kernel) (by decide) ?_
  refine gx_aload_n C dX1_init_80 0 rfl ?_
  refine gj_iconst C dX1_init_81 ?_
  refine gx_newa (t0 := 0) C E dX1_init_82 (by decide) rfl q340 (by decide) rfl (fun v82 => ?_)
  refine gx_pR (O := "BorrowedLives") (nm := "facts") (ds := "[I") (fin := true) (ty := (.array .int)) C E dX1_init_84 (by decide +kernel) (Or.inl q387) (fun _ h => h) (fun _ => ⟨hnm, rfl⟩) (by decide +kernel) (by decide) ?_
  refine gx_aload_n C dX1_init_87 0 rfl ?_
  refine gj_bipush C dX1_init_88 rfl ?_
  refine gx_newa (t0 := 0) C E dX1_init_90 (by decide) rfl q340 (by decide) rfl (fun v90 => ?_)
  refine gx_pR (O := "BorrowedLives") (nm := "lot") (ds := "[I") (fin := true) (ty := (.array .int)) C E dX1_init_92 (by decide +kernel) (Or.inl q389) (fun _ h => h) (fun _ => ⟨hnm, rfl⟩) (by decide +kernel) (by decide) ?_
  refine gx_aload_n C dX1_init_95 0 rfl ?_
  refine gj_bipush C dX1_init_96 rfl ?_
  refine gx_anew (t0 := 5) C E dX1_init_98 (by decide) (by decide) rfl q284 E.1.2.2.2.1 (fun v98 => ?_)
  refine gx_pR (O := "BorrowedLives") (nm := "undone") (ds := "[LBorrowedLives$State;") (fin := true) (ty := (.array (.object "BorrowedLives$State"))) C E dX1_init_101 (by decide +kernel) (Or.inl q390) (fun _ h => h) (fun _ => ⟨hnm, rfl⟩) (by decide +kernel) (by decide) ?_
  refine gx_aload_n C dX1_init_104 0 rfl ?_
  refine gj_bipush C dX1_init_105 rfl ?_
  refine gx_newa (t0 := 0) C E dX1_init_107 (by decide) rfl q340 (by decide) rfl (fun v107 => ?_)
  refine gx_pR (O := "BorrowedLives") (nm := "pairOf") (ds := "[I") (fin := true) (ty := (.array .int)) C E dX1_init_109 (by decide +kernel) (Or.inl q394) (fun _ h => h) (fun _ => ⟨hnm, rfl⟩) (by decide +kernel) (by decide) ?_
  refine gx_aload_n C dX1_init_112 0 rfl ?_
  refine gj_bipush C dX1_init_113 rfl ?_
  refine gx_newa (t0 := 0) C E dX1_init_115 (by decide) rfl q340 (by decide) rfl (fun v115 => ?_)
  refine gx_pR (O := "BorrowedLives") (nm := "bestPair") (ds := "[I") (fin := true) (ty := (.array .int)) C E dX1_init_117 (by decide +kernel) (Or.inl q395) (fun _ h => h) (fun _ => ⟨hnm, rfl⟩) (by decide +kernel) (by decide) ?_
  refine gx_aload_n C dX1_init_120 0 rfl ?_
  refine gj_bipush C dX1_init_121 rfl ?_
  refine gx_newa (t0 := 0) C E dX1_init_123 (by decide) rfl q340 (by decide) rfl (fun v123 => ?_)
  refine gx_pR (O := "BorrowedLives") (nm := "taleLife") (ds := "[I") (fin := true) (ty := (.array .int)) C E dX1_init_125 (by decide +kernel) (Or.inl q397) (fun _ h => h) (fun _ => ⟨hnm, rfl⟩) (by decide +kernel) (by decide) ?_
  refine gx_aload_n C dX1_init_128 0 rfl ?_
  refine gj_bipush C dX1_init_129 rfl ?_
  refine gx_newa (t0 := 0) C E dX1_init_131 (by decide) rfl q340 (by decide) rfl (fun v131 => ?_)
  refine gx_pR (O := "BorrowedLives") (nm := "taleDay") (ds := "[I") (fin := true) (ty := (.array .int)) C E dX1_init_133 (by decide +kernel) (Or.inl q398) (fun _ h => h) (fun _ => ⟨hnm, rfl⟩) (by decide +kernel) (by decide) ?_
  refine gx_aload_n C dX1_init_136 0 rfl ?_
  refine gj_bipush C dX1_init_137 rfl ?_
  refine gx_newa (t0 := 0) C E dX1_init_139 (by decide) rfl q340 (by decide) rfl (fun v139 => ?_)
  refine gx_pR (O := "BorrowedLives") (nm := "talePurse") (ds := "[I") (fin := true) (ty := (.array .int)) C E dX1_init_141 (by decide +kernel) (Or.inl q399) (fun _ h => h) (fun _ => ⟨hnm, rfl⟩) (by decide +kernel) (by decide) ?_
  refine gx_aload_n C dX1_init_144 0 rfl ?_
  refine gj_bipush C dX1_init_145 rfl ?_
  refine gj_bipush C dX1_init_147 rfl ?_
  refine gx_newg C E dX1_init_149 q342 (fun v149 => ?_)
  refine gx_pR (O := "BorrowedLives") (nm := "held") (ds := "[[I") (fin := true) (ty := (.array (.array .int))) C E dX1_init_153 (by decide +kernel) (Or.inl q402) (fun _ h => h) (fun _ => ⟨hnm, rfl⟩) (by decide +kernel) (by decide) ?_
  refine gx_aload_n C dX1_init_156 0 rfl ?_
  refine gj_sipush C dX1_init_157 rfl ?_
  refine gx_newa (t0 := 0) C E dX1_init_160 (by decide) rfl q340 (by decide) rfl (fun v160 => ?_)
  refine gx_pR (O := "BorrowedLives") (nm := "like") (ds := "[I") (fin := true) (ty := (.array .int)) C E dX1_init_162 (by decide +kernel) (Or.inl q404) (fun _ h => h) (fun _ => ⟨hnm, rfl⟩) (by decide +kernel) (by decide) ?_
  refine gx_aload_n C dX1_init_165 0 rfl ?_
  refine gj_iconst C dX1_init_166 ?_
  refine gx_anew (t0 := 6) C E dX1_init_167 (by decide) (by decide) rfl q344 E.1.2.2.2.2.1 (fun v167 => ?_)
  refine gx_pR (O := "BorrowedLives") (nm := "marks") (ds := "[LBorrowedLives$Mark;") (fin := true) (ty := (.array (.object "BorrowedLives$Mark"))) C E dX1_init_170 (by decide +kernel) (Or.inl q405) (fun _ h => h) (fun _ => ⟨hnm, rfl⟩) (by decide +kernel) (by decide) ?_
  refine gx_aload_n C dX1_init_173 0 rfl ?_
  refine gx_gR (O := "BorrowedLives") (nm := "state") (ds := "LBorrowedLives$State;") (fin := true) C E dX1_init_174 (by decide +kernel) (Or.inl q380) (fun _ h => h) (fun v174 => ?_)
  refine gx_aload_n C dX1_init_177 0 rfl ?_
  refine gx_gR (O := "BorrowedLives") (nm := "town") (ds := "LBorrowedLives$Town;") (fin := false) C E dX1_init_178 (by decide +kernel) (Or.inl q377) (fun _ h => h) (fun v178 => ?_)
  refine gx_callVV (t0 := 4) (As := [rv g v178]) (rest := []) C E rfl dX1_init_181 (mx4_begin (cx_l X) g v174 v178) (lw_V q346 q347 q348 q131 q349) hyx_X4_begin rfl hR (Nat.le_of_ble_eq_true rfl) (by decide) rfl rfl (Nat.zero_le _) ?_
  exact gx_vret C hQ hr dX1_init_184
def x1_feed_j103 (a0 : Option Nat) (a1 a3 a5 a7 : Int) (bk3 : (Int) → PT Hp Int) : PT Hp Int :=
  bk3 (a7 + 1)
def x1_feed_j74 (a0 : Option Nat) (a1 a3 a5 a7 a8 : Int) (bk3 : (Int) → PT Hp Int) : PT Hp Int :=
  pbnd (xgI a0 1 8) fun v75 =>
  pite (w32 v75 < 1000) (
    pbnd (xgR a0 1 0) fun v85 =>
    pbnd (xgI a0 1 8) fun v90 =>
    pbnd (xpI a0 1 8 (w32 (v90 + 1))) fun _ =>
    pbnd (xst v85 43 v90 (zi2b (zi2b a8))) fun _ =>
    x1_feed_j103 a0 a1 a3 a5 a7 bk3) (
    x1_feed_j103 a0 a1 a3 a5 a7 bk3)
def x1_feed_b3 (a0 : Option Nat) (a1 a3 a5 : Int) (a7 : Int) (bk3 : (Int) → PT Hp Int) : PT Hp Int :=
  pite (w32 a7 < 24) (
    plet (if w32 a7 < 8 then a1 else if w32 a7 < 16 then a3 else a5) fun d34 =>
    pbnd (pnz 8) fun _ =>
    plet (zand (zl2i (lshr' d34 ((56 - ((8 * (zrem a7 8))))))) 255) fun x51 =>
    pite (w32 x51 = 10) (
      x1_feed_j74 a0 a1 a3 a5 a7 x51 bk3) (
      pite (w32 x51 < 32) (
        x1_feed_j103 a0 a1 a3 a5 a7 bk3) (
        pite (126 < w32 x51) (
          x1_feed_j103 a0 a1 a3 a5 a7 bk3) (
          x1_feed_j74 a0 a1 a3 a5 a7 x51 bk3)))) (
    pbnd (xgI a0 1 8) fun v110 =>
    pret v110)
def x1_feed_l3 (a0 : Option Nat) (a1 a3 a5 a7 : Int) : PT Hp Int :=
  ploop (fun (s : (Int)) bk3 => x1_feed_b3 a0 a1 a3 a5 s bk3) (a7)
def x1_feed (a0 : Option Nat) (a1 a3 a5 : Int) : PT Hp Int :=
  x1_feed_l3 a0 a1 a3 a5 0
set_option maxHeartbeats 4000000 in
set_option maxRecDepth 100000 in
theorem mx1_feed (l : Launch) (g : XG) (a0 : Option Nat) (a1 a3 a5 : Int) : XMet l g yX1_feed cX1_feed 9 (Option.some Jvm.ClassFile.FieldType.int) (0) [rv g a0, .long (iL a1), .long (iL a3), .long (iL a5)] (x1_feed a0 a1 a3 a5) rvI := by
  refine gx_start (by decide +kernel) (by have e := lg_sl_len [rv g a0, .long (iL a1), .long (iL a3), .long (iL a5)]; simp only [List.map_cons, List.map_nil, List.sum_cons, List.sum_nil, rv_cat, cat_int, cat_long] at e; omega) (fun X Q σ0 hl C E hQ hR hr hnm => ?_)
  subst hl
  rw [show lv_args 0 [rv g a0, .long (iL a1), .long (iL a3), .long (iL a5)] = [(0, rv g a0), (1, .long (iL a1)), (3, .long (iL a3)), (5, .long (iL a5))] from by simp [lv_args, rv_cat, cat_int, cat_long]]
  show GJ X 9 (xWo g σ0 (cx_s X).heap) Q (x1_feed a0 a1 a3 a5) 0 [(0, rv g a0), (1, .long (iL a1)), (3, .long (iL a3)), (5, .long (iL a5))] []
  have J3 : ∀ (a0 : Option Nat) (a1 a3 a5 a7 : Int), GJ X 9 (xWo g σ0 (cx_s X).heap) Q (x1_feed_l3 a0 a1 a3 a5 a7) 3 [(0, rv g a0), (1, .long (iL a1)), (3, .long (iL a3)), (5, .long (iL a5)), (7, .int (iI a7))] [] := by
    intro a0 a1 a3 a5 a7
    unfold x1_feed_l3
    refine gj_loop (fun (s : (Int)) => [(0, rv g a0), (1, .long (iL a1)), (3, .long (iL a3)), (5, .long (iL a5)), (7, .int (iI s))]) (a7) (fun bk3 hb3 s => ?_)
    obtain ⟨a7, rfl⟩ : ∃ z, z = s := ⟨s, rfl⟩
    show GJ X 9 (xWo g σ0 (cx_s X).heap) Q (x1_feed_b3 a0 a1 a3 a5 a7 bk3) 3 [(0, rv g a0), (1, .long (iL a1)), (3, .long (iL a3)), (5, .long (iL a5)), (7, .int (iI a7))] []
    have J103 : ∀ (a7 : Int), GJ X 9 (xWo g σ0 (cx_s X).heap) Q (x1_feed_j103 a0 a1 a3 a5 a7 bk3) 103 [(0, rv g a0), (1, .long (iL a1)), (3, .long (iL a3)), (5, .long (iL a5)), (7, .int (iI a7))] [] := by
      intro a7
      unfold x1_feed_j103
      refine gj_iinc (L' := [(7, _), (0, _), (1, _), (3, _), (5, _)]) C dX1_feed_103 4 rfl (by decide) rfl ?_
      refine gj_goto (tgt := 3) C dX1_feed_106 (by decide) ?_
      exact gj_to [1, 2, 3, 4, 0] (hb3 (a7 + 1)) rfl
    have J74 : ∀ (a7 a8 : Int), GJ X 9 (xWo g σ0 (cx_s X).heap) Q (x1_feed_j74 a0 a1 a3 a5 a7 a8 bk3) 74 [(0, rv g a0), (1, .long (iL a1)), (3, .long (iL a3)), (5, .long (iL a5)), (7, .int (iI a7)), (8, .int (iI a8))] [] := by
      intro a7 a8
      unfold x1_feed_j74
      refine gx_aload_n C dX1_feed_74 0 rfl ?_
      refine gx_gI (O := "BorrowedLives") (nm := "taped") (ds := "I") (fin := false) C E dX1_feed_75 (by decide +kernel) (Or.inl q388) (fun _ h => h) (fun v75 => ?_)
      refine gj_sipush C dX1_feed_78 rfl ?_
      refine gj_icmp_ge (tgt := 103) (b' := 1000) C dX1_feed_81 (by decide) rfl (by decide) (fun h81 => gj_neg h81 ?_) (fun h81 => gj_pos h81 ?_)
      · exact gj_to [0, 1, 2, 3, 4] (J103 a7) rfl
      · refine gx_aload_n C dX1_feed_84 0 rfl ?_
        refine gx_gR (O := "BorrowedLives") (nm := "tape") (ds := "[B") (fin := true) C E dX1_feed_85 (by decide +kernel) (Or.inl q373) (fun _ h => h) (fun v85 => ?_)
        refine gx_aload_n C dX1_feed_88 0 rfl ?_
        refine gx_dup C dX1_feed_89 ?_
        refine gx_gI (O := "BorrowedLives") (nm := "taped") (ds := "I") (fin := false) C E dX1_feed_90 (by decide +kernel) (Or.inl q388) (fun _ h => h) (fun v90 => ?_)
        refine gj_dup_x1 C dX1_feed_93 rfl (rv_cat _ _) ?_
        refine gj_iconst C dX1_feed_94 ?_
        refine gj_iadd C dX1_feed_95 ?_
        refine gj_nrmI ?_
        refine gx_pI (O := "BorrowedLives") (nm := "taped") (ds := "I") (fin := false) (ty := .int) C E dX1_feed_96 (by decide +kernel) (Or.inl q388) (fun _ h => h) (fun h => by cases h) (by decide +kernel) (inty_int _) ?_
        refine gj_iload C dX1_feed_99 5 rfl ?_
        refine gj_i2b C dX1_feed_101 ?_
        refine gx_bast C E dX1_feed_102 ?_
        exact gj_to [0, 1, 2, 3, 4] (J103 a7) rfl
    unfold x1_feed_b3
    refine gj_iload C dX1_feed_3 4 rfl ?_
    refine gj_bipush C dX1_feed_5 rfl ?_
    refine gj_icmp_ge (tgt := 109) (b' := 24) C dX1_feed_7 (by decide) rfl (by decide) (fun h7 => gj_neg h7 ?_) (fun h7 => gj_pos h7 ?_)
    · refine gx_aload_n C dX1_feed_109 0 rfl ?_
      refine gx_gI (O := "BorrowedLives") (nm := "taped") (ds := "I") (fin := false) C E dX1_feed_110 (by decide +kernel) (Or.inl q388) (fun _ h => h) (fun v110 => ?_)
      exact gx_iret C hQ hr dX1_feed_113
    · refine gj_iload C dX1_feed_10 4 rfl ?_
      refine gj_bipush C dX1_feed_12 rfl ?_
      refine gj_dial (J := 34) (L := [(0, rv g a0), (1, .long (iL a1)), (3, .long (iL a3)), (5, .long (iL a5)), (7, .int (iI a7))]) (st := []) (fun d34 => ?_) (fun t hJ => ?_)
      · skip
        refine gj_bipush C dX1_feed_34 rfl ?_
        refine gj_bipush C dX1_feed_36 rfl ?_
        refine gj_iload C dX1_feed_38 4 rfl ?_
        refine gj_bipush C dX1_feed_40 rfl ?_
        refine gj_nz (fun hz42 => ?_)
        refine gj_irem C dX1_feed_42 hz42 ?_
        refine gj_imul C dX1_feed_43 ?_
        refine gj_isub C dX1_feed_44 ?_
        refine gj_lshr C dX1_feed_45 ?_
        refine gj_l2i C dX1_feed_46 ?_
        refine gj_sipush C dX1_feed_47 rfl ?_
        refine gj_iand C dX1_feed_50 ?_
        refine gj_let (fun x51 => ?_)
        refine gj_istore (L' := [(8, _), (0, _), (1, _), (3, _), (5, _), (7, _)]) C dX1_feed_51 (by decide) rfl ?_
        refine gj_iload C dX1_feed_53 0 rfl ?_
        refine gj_bipush C dX1_feed_55 rfl ?_
        refine gj_icmp_eq (tgt := 74) (b' := 10) C dX1_feed_57 (by decide) rfl (by decide) (fun h57 => gj_pos h57 ?_) (fun h57 => gj_neg h57 ?_)
        · exact gj_to [1, 2, 3, 4, 5, 0] (J74 a7 x51) rfl
        · refine gj_iload C dX1_feed_60 0 rfl ?_
          refine gj_bipush C dX1_feed_62 rfl ?_
          refine gj_icmp_lt (tgt := 103) (b' := 32) C dX1_feed_64 (by decide) rfl (by decide) (fun h64 => gj_pos h64 ?_) (fun h64 => gj_neg h64 ?_)
          · exact gj_to [1, 2, 3, 4, 5] (J103 a7) rfl
          · refine gj_iload C dX1_feed_67 0 rfl ?_
            refine gj_bipush C dX1_feed_69 rfl ?_
            refine gj_icmp_gt (tgt := 103) (b' := 126) C dX1_feed_71 (by decide) rfl (by decide) (fun h71 => gj_pos h71 ?_) (fun h71 => gj_neg h71 ?_)
            · exact gj_to [1, 2, 3, 4, 5] (J103 a7) rfl
            · exact gj_to [1, 2, 3, 4, 5, 0] (J74 a7 x51) rfl
      · refine gj_icmp_ge (tgt := 21) (b' := 8) C dX1_feed_14 (by decide) rfl (by decide) (fun h14 => ?_) (fun h14 => ?_)
        · refine gj_iload C dX1_feed_21 4 rfl ?_
          refine gj_bipush C dX1_feed_23 rfl ?_
          refine gj_icmp_ge (tgt := 32) (b' := 16) C dX1_feed_25 (by decide) rfl (by decide) (fun h25 => ?_) (fun h25 => ?_)
          · refine gj_lload C dX1_feed_32 3 rfl ?_
            exact (by rw [if_neg h14, if_neg h25] at hJ; exact hJ)
          · refine gj_lload_n C dX1_feed_28 2 rfl ?_
            refine gj_goto (tgt := 34) C dX1_feed_29 (by decide) ?_
            exact (by rw [if_neg h14, if_pos h25] at hJ; exact hJ)
        · refine gj_lload_n C dX1_feed_17 1 rfl ?_
          refine gj_goto (tgt := 34) C dX1_feed_18 (by decide) ?_
          exact (by rw [if_pos h14] at hJ; exact hJ)
  unfold x1_feed
  refine gj_iconst C dX1_feed_0 ?_
  refine gj_istore (L' := [(7, _), (0, _), (1, _), (3, _), (5, _)]) C dX1_feed_1 (by decide) rfl ?_
  exact gj_to [1, 2, 3, 4, 0] (J3 a0 a1 a3 a5 0) rfl
def x2_at (a0 : Option Nat) (a1 : Int) : PT Hp Int :=
  pbnd (xgI a0 2 1) fun v2 =>
  pite (w32 a1 < w32 v2) (
    pbnd (xgR a0 2 0) fun v9 =>
    pbnd (xld v9 43 a1) fun v13 =>
    pret v13) (
    pret 0)
set_option maxHeartbeats 4000000 in
set_option maxRecDepth 100000 in
theorem mx2_at (l : Launch) (g : XG) (a0 : Option Nat) (a1 : Int) : XMet l g yX2_at cX2_at 2 (Option.some Jvm.ClassFile.FieldType.int) (0) [rv g a0, .int (iI a1)] (x2_at a0 a1) rvI := by
  refine gx_start (by decide +kernel) (by have e := lg_sl_len [rv g a0, .int (iI a1)]; simp only [List.map_cons, List.map_nil, List.sum_cons, List.sum_nil, rv_cat, cat_int, cat_long] at e; omega) (fun X Q σ0 hl C E hQ hR hr hnm => ?_)
  subst hl
  rw [show lv_args 0 [rv g a0, .int (iI a1)] = [(0, rv g a0), (1, .int (iI a1))] from by simp [lv_args, rv_cat, cat_int, cat_long]]
  show GJ X 2 (xWo g σ0 (cx_s X).heap) Q (x2_at a0 a1) 0 [(0, rv g a0), (1, .int (iI a1))] []
  unfold x2_at
  refine gj_iload_n C dX2_at_0 1 rfl ?_
  refine gx_aload_n C dX2_at_1 0 rfl ?_
  refine gx_gI (O := "BorrowedLives$Reader") (nm := "size") (ds := "I") (fin := false) C E dX2_at_2 (by decide +kernel) (Or.inl q189) (fun _ h => h) (fun v2 => ?_)
  refine gj_icmp_ge (tgt := 17) C dX2_at_5 (by decide) rfl rfl (fun h5 => gj_neg h5 ?_) (fun h5 => gj_pos h5 ?_)
  · refine gj_iconst C dX2_at_17 ?_
    exact gx_iret C hQ hr dX2_at_18
  · refine gx_aload_n C dX2_at_8 0 rfl ?_
    refine gx_gR (O := "BorrowedLives$Reader") (nm := "text") (ds := "[B") (fin := false) C E dX2_at_9 (by decide +kernel) (Or.inl q188) (fun _ h => h) (fun v9 => ?_)
    refine gj_iload_n C dX2_at_12 1 rfl ?_
    refine gx_bald C E dX2_at_13 (fun v13 => ?_)
    refine gj_goto (tgt := 18) C dX2_at_14 (by decide) ?_
    exact gx_iret C hQ hr dX2_at_18
def x2_isLetter (a0 : Int) : PT Hp Int :=
  plet (if w32 a0 < 97 then 0 else if 122 < w32 a0 then 0 else 1) fun d17 =>
  pbnd (pzo d17) fun _ => pret d17
set_option maxHeartbeats 4000000 in
set_option maxRecDepth 100000 in
theorem mx2_isLetter (l : Launch) (g : XG) (a0 : Int) : XMet l g yX2_isLetter cX2_isLetter 1 (Option.some Jvm.ClassFile.FieldType.boolean) (0) [.int (iI a0)] (x2_isLetter a0) rvI := by
  refine gx_start (by decide +kernel) (by have e := lg_sl_len [.int (iI a0)]; simp only [List.map_cons, List.map_nil, List.sum_cons, List.sum_nil, rv_cat, cat_int, cat_long] at e; omega) (fun X Q σ0 hl C E hQ hR hr hnm => ?_)
  subst hl
  show GJ X 1 (xWo g σ0 (cx_s X).heap) Q (x2_isLetter a0) 0 [(0, .int (iI a0))] []
  unfold x2_isLetter
  refine gj_iload_n C dX2_isLetter_0 0 rfl ?_
  refine gj_bipush C dX2_isLetter_1 rfl ?_
  refine gj_dia (J := 17) (L := [(0, .int (iI a0))]) (st := []) (fun d17 => ?_) (fun t hJ => ?_)
  · skip
    exact gx_zret C hQ hr dX2_isLetter_17
  · refine gj_icmp_lt (tgt := 16) (b' := 97) C dX2_isLetter_3 (by decide) rfl (by decide) (fun h3 => ?_) (fun h3 => ?_)
    · refine gj_iconst C dX2_isLetter_16 ?_
      exact (by rw [if_pos h3] at hJ; exact hJ)
    · refine gj_iload_n C dX2_isLetter_6 0 rfl ?_
      refine gj_bipush C dX2_isLetter_7 rfl ?_
      refine gj_icmp_gt (tgt := 16) (b' := 122) C dX2_isLetter_9 (by decide) rfl (by decide) (fun h9 => ?_) (fun h9 => ?_)
      · refine gj_iconst C dX2_isLetter_16 ?_
        exact (by rw [if_neg h3, if_pos h9] at hJ; exact hJ)
      · refine gj_iconst C dX2_isLetter_12 ?_
        refine gj_goto (tgt := 17) C dX2_isLetter_13 (by decide) ?_
        exact (by rw [if_neg h3, if_neg h9] at hJ; exact hJ)
def x2_isDigit (a0 : Int) : PT Hp Int :=
  plet (if w32 a0 < 48 then 0 else if 57 < w32 a0 then 0 else 1) fun d17 =>
  pbnd (pzo d17) fun _ => pret d17
set_option maxHeartbeats 4000000 in
set_option maxRecDepth 100000 in
theorem mx2_isDigit (l : Launch) (g : XG) (a0 : Int) : XMet l g yX2_isDigit cX2_isDigit 1 (Option.some Jvm.ClassFile.FieldType.boolean) (0) [.int (iI a0)] (x2_isDigit a0) rvI := by
  refine gx_start (by decide +kernel) (by have e := lg_sl_len [.int (iI a0)]; simp only [List.map_cons, List.map_nil, List.sum_cons, List.sum_nil, rv_cat, cat_int, cat_long] at e; omega) (fun X Q σ0 hl C E hQ hR hr hnm => ?_)
  subst hl
  show GJ X 1 (xWo g σ0 (cx_s X).heap) Q (x2_isDigit a0) 0 [(0, .int (iI a0))] []
  unfold x2_isDigit
  refine gj_iload_n C dX2_isDigit_0 0 rfl ?_
  refine gj_bipush C dX2_isDigit_1 rfl ?_
  refine gj_dia (J := 17) (L := [(0, .int (iI a0))]) (st := []) (fun d17 => ?_) (fun t hJ => ?_)
  · skip
    exact gx_zret C hQ hr dX2_isDigit_17
  · refine gj_icmp_lt (tgt := 16) (b' := 48) C dX2_isDigit_3 (by decide) rfl (by decide) (fun h3 => ?_) (fun h3 => ?_)
    · refine gj_iconst C dX2_isDigit_16 ?_
      exact (by rw [if_pos h3] at hJ; exact hJ)
    · refine gj_iload_n C dX2_isDigit_6 0 rfl ?_
      refine gj_bipush C dX2_isDigit_7 rfl ?_
      refine gj_icmp_gt (tgt := 16) (b' := 57) C dX2_isDigit_9 (by decide) rfl (by decide) (fun h9 => ?_) (fun h9 => ?_)
      · refine gj_iconst C dX2_isDigit_16 ?_
        exact (by rw [if_neg h3, if_pos h9] at hJ; exact hJ)
      · refine gj_iconst C dX2_isDigit_12 ?_
        refine gj_goto (tgt := 17) C dX2_isDigit_13 (by decide) ?_
        exact (by rw [if_neg h3, if_neg h9] at hJ; exact hJ)
def j5_isLatin1 (a0 : Option Nat) : PT Hp Int :=
  pite (w32 1 = 0) (
    pbnd (pzo 0) fun _ => pret 0) (
    pbnd (xkgI a0) fun v7 =>
    pite (w32 v7 = 0) (
      pbnd (pzo 1) fun _ => pret 1) (
      pbnd (pzo 0) fun _ => pret 0))
set_option maxHeartbeats 4000000 in
set_option maxRecDepth 100000 in
theorem mj5_isLatin1 (l : Launch) (g : XG) (a0 : Option Nat) : XMet l g yJ5_isLatin1 cJ5_isLatin1 1 (Option.some Jvm.ClassFile.FieldType.boolean) (0) [rv g a0] (j5_isLatin1 a0) rvI := by
  refine gx_start (by decide +kernel) (by have e := lg_sl_len [rv g a0]; simp only [List.map_cons, List.map_nil, List.sum_cons, List.sum_nil, rv_cat, cat_int, cat_long] at e; omega) (fun X Q σ0 hl C E hQ hR hr hnm => ?_)
  subst hl
  rw [show lv_args 0 [rv g a0] = [(0, rv g a0)] from by simp [lv_args, rv_cat, cat_int, cat_long]]
  show GJ X 1 (xWo g σ0 (cx_s X).heap) Q (j5_isLatin1 a0) 0 [(0, rv g a0)] []
  unfold j5_isLatin1
  refine gx_gsCS C E dJ5_isLatin1_0 q497 ?_
  refine gj_if_eq (tgt := 17) C dJ5_isLatin1_3 (by decide) (fun h3 => gj_pos h3 ?_) (fun h3 => gj_neg h3 ?_)
  · refine gj_iconst C dJ5_isLatin1_17 ?_
    exact gx_zret C hQ hr dJ5_isLatin1_18
  · refine gx_aload_n C dJ5_isLatin1_6 0 rfl ?_
    refine gx_kgI C E dJ5_isLatin1_7 q841 (fun v7 => ?_)
    refine gj_if_ne (tgt := 17) C dJ5_isLatin1_10 (by decide) (fun h10 => gj_neg h10 ?_) (fun h10 => gj_pos h10 ?_)
    · refine gj_iconst C dJ5_isLatin1_17 ?_
      exact gx_zret C hQ hr dJ5_isLatin1_18
    · refine gj_iconst C dJ5_isLatin1_13 ?_
      refine gj_goto (tgt := 18) C dJ5_isLatin1_14 (by decide) ?_
      exact gx_zret C hQ hr dJ5_isLatin1_18
def j5_coder (a0 : Option Nat) : PT Hp Int :=
  pite (w32 1 = 0) (
    pbnd (pzb 1) fun _ => pret 1) (
    pbnd (xkgI a0) fun v7 =>
    pbnd (pzb v7) fun _ => pret v7)
set_option maxHeartbeats 4000000 in
set_option maxRecDepth 100000 in
theorem mj5_coder (l : Launch) (g : XG) (a0 : Option Nat) : XMet l g yJ5_coder cJ5_coder 1 (Option.some Jvm.ClassFile.FieldType.byte) (0) [rv g a0] (j5_coder a0) rvI := by
  refine gx_start (by decide +kernel) (by have e := lg_sl_len [rv g a0]; simp only [List.map_cons, List.map_nil, List.sum_cons, List.sum_nil, rv_cat, cat_int, cat_long] at e; omega) (fun X Q σ0 hl C E hQ hR hr hnm => ?_)
  subst hl
  rw [show lv_args 0 [rv g a0] = [(0, rv g a0)] from by simp [lv_args, rv_cat, cat_int, cat_long]]
  show GJ X 1 (xWo g σ0 (cx_s X).heap) Q (j5_coder a0) 0 [(0, rv g a0)] []
  unfold j5_coder
  refine gx_gsCS C E dJ5_coder_0 q497 ?_
  refine gj_if_eq (tgt := 13) C dJ5_coder_3 (by decide) (fun h3 => gj_pos h3 ?_) (fun h3 => gj_neg h3 ?_)
  · refine gj_iconst C dJ5_coder_13 ?_
    exact gx_bret C hQ hr dJ5_coder_14
  · refine gx_aload_n C dJ5_coder_6 0 rfl ?_
    refine gx_kgI C E dJ5_coder_7 q841 (fun v7 => ?_)
    refine gj_goto (tgt := 14) C dJ5_coder_10 (by decide) ?_
    exact gx_bret C hQ hr dJ5_coder_14
def j5_length (a0 : Option Nat) : PT Hp Int :=
  pbnd (xkgR a0) fun v1 =>
  pbnd (xlen v1) fun v4 =>
  pbnd (xrecv a0 29) fun _ =>
  pbnd (j5_coder a0) fun v6 =>
  pret (zshr v4 v6)
set_option maxHeartbeats 4000000 in
set_option maxRecDepth 100000 in
theorem mj5_length (l : Launch) (g : XG) (a0 : Option Nat) : XMet l g yJ5_length cJ5_length 1 (Option.some Jvm.ClassFile.FieldType.int) (1) [rv g a0] (j5_length a0) rvI := by
  refine gx_start (by decide +kernel) (by have e := lg_sl_len [rv g a0]; simp only [List.map_cons, List.map_nil, List.sum_cons, List.sum_nil, rv_cat, cat_int, cat_long] at e; omega) (fun X Q σ0 hl C E hQ hR hr hnm => ?_)
  subst hl
  rw [show lv_args 0 [rv g a0] = [(0, rv g a0)] from by simp [lv_args, rv_cat, cat_int, cat_long]]
  show GJ X 1 (xWo g σ0 (cx_s X).heap) Q (j5_length a0) 0 [(0, rv g a0)] []
  unfold j5_length
  refine gx_aload_n C dJ5_length_0 0 rfl ?_
  refine gx_kgR C E dJ5_length_1 q840 (fun v1 => ?_)
  refine gx_len C E dJ5_length_4 (fun v4 => ?_)
  refine gx_aload_n C dJ5_length_5 0 rfl ?_
  refine gx_callKI (As := []) (rest := [.int (iI v4)]) C E dJ5_length_6 (mj5_coder (cx_l X) g a0) (lw_V q503 q504 q505 q135 q506) hyx_J5_coder rfl hR (Nat.le_of_ble_eq_true rfl) (by decide) rfl rfl (Nat.le_of_ble_eq_true rfl) (fun v6 => ?_)
  refine gj_ishr C dJ5_length_9 ?_
  exact gx_iret C hQ hr dJ5_length_10
def j6_canEncode (a0 : Int) : PT Hp Int :=
  plet (if w32 a0 < 0 then 0 else if 255 < w32 a0 then 0 else 1) fun d16 =>
  pbnd (pzo d16) fun _ => pret d16
set_option maxHeartbeats 4000000 in
set_option maxRecDepth 100000 in
theorem mj6_canEncode (l : Launch) (g : XG) (a0 : Int) : XMet l g yJ6_canEncode cJ6_canEncode 1 (Option.some Jvm.ClassFile.FieldType.boolean) (0) [.int (iI a0)] (j6_canEncode a0) rvI := by
  refine gx_start (by decide +kernel) (by have e := lg_sl_len [.int (iI a0)]; simp only [List.map_cons, List.map_nil, List.sum_cons, List.sum_nil, rv_cat, cat_int, cat_long] at e; omega) (fun X Q σ0 hl C E hQ hR hr hnm => ?_)
  subst hl
  show GJ X 1 (xWo g σ0 (cx_s X).heap) Q (j6_canEncode a0) 0 [(0, .int (iI a0))] []
  unfold j6_canEncode
  refine gj_iload_n C dJ6_canEncode_0 0 rfl ?_
  refine gj_dia (J := 16) (L := [(0, .int (iI a0))]) (st := []) (fun d16 => ?_) (fun t hJ => ?_)
  · skip
    exact gx_zret C hQ hr dJ6_canEncode_16
  · refine gj_if_lt (tgt := 15) C dJ6_canEncode_1 (by decide) (fun h1 => ?_) (fun h1 => ?_)
    · refine gj_iconst C dJ6_canEncode_15 ?_
      exact (by rw [if_pos h1] at hJ; exact hJ)
    · refine gj_iload_n C dJ6_canEncode_4 0 rfl ?_
      refine gj_sipush C dJ6_canEncode_5 rfl ?_
      refine gj_icmp_gt (tgt := 15) (b' := 255) C dJ6_canEncode_8 (by decide) rfl (by decide) (fun h8 => ?_) (fun h8 => ?_)
      · refine gj_iconst C dJ6_canEncode_15 ?_
        exact (by rw [if_neg h1, if_pos h8] at hJ; exact hJ)
      · refine gj_iconst C dJ6_canEncode_11 ?_
        refine gj_goto (tgt := 16) C dJ6_canEncode_12 (by decide) ?_
        exact (by rw [if_neg h1, if_neg h8] at hJ; exact hJ)
def j6_indexOfChar_b7 (a0 : Option Nat) (a3 a4 : Int) (a5 : Int) (bk7 : (Int) → PT Hp Int) : PT Hp Int :=
  pite (w32 a5 < w32 a3) (
    pbnd (xld a0 48 a5) fun v16 =>
    pite (w32 v16 = w32 a4) (
      pret (w32 a5)) (
      bk7 (a5 + 1))) (
    pret (-1))
def j6_indexOfChar_l7 (a0 : Option Nat) (a3 a4 a5 : Int) : PT Hp Int :=
  ploop (fun (s : (Int)) bk7 => j6_indexOfChar_b7 a0 a3 a4 s bk7) (a5)
def j6_indexOfChar (a0 : Option Nat) (a1 a2 a3 : Int) : PT Hp Int :=
  plet (zi2b a1) fun x2 =>
  j6_indexOfChar_l7 a0 a3 x2 a2
set_option maxHeartbeats 4000000 in
set_option maxRecDepth 100000 in
theorem mj6_indexOfChar (l : Launch) (g : XG) (a0 : Option Nat) (a1 a2 a3 : Int) : XMet l g yJ6_indexOfChar cJ6_indexOfChar 6 (Option.some Jvm.ClassFile.FieldType.int) (0) [rv g a0, .int (iI a1), .int (iI a2), .int (iI a3)] (j6_indexOfChar a0 a1 a2 a3) rvI := by
  refine gx_start (by decide +kernel) (by have e := lg_sl_len [rv g a0, .int (iI a1), .int (iI a2), .int (iI a3)]; simp only [List.map_cons, List.map_nil, List.sum_cons, List.sum_nil, rv_cat, cat_int, cat_long] at e; omega) (fun X Q σ0 hl C E hQ hR hr hnm => ?_)
  subst hl
  rw [show lv_args 0 [rv g a0, .int (iI a1), .int (iI a2), .int (iI a3)] = [(0, rv g a0), (1, .int (iI a1)), (2, .int (iI a2)), (3, .int (iI a3))] from by simp [lv_args, rv_cat, cat_int, cat_long]]
  show GJ X 6 (xWo g σ0 (cx_s X).heap) Q (j6_indexOfChar a0 a1 a2 a3) 0 [(0, rv g a0), (1, .int (iI a1)), (2, .int (iI a2)), (3, .int (iI a3))] []
  have J7 : ∀ (a0 : Option Nat) (a3 a4 a5 : Int), GJ X 6 (xWo g σ0 (cx_s X).heap) Q (j6_indexOfChar_l7 a0 a3 a4 a5) 7 [(0, rv g a0), (3, .int (iI a3)), (4, .int (iI a4)), (5, .int (iI a5))] [] := by
    intro a0 a3 a4 a5
    unfold j6_indexOfChar_l7
    refine gj_loop (fun (s : (Int)) => [(0, rv g a0), (3, .int (iI a3)), (4, .int (iI a4)), (5, .int (iI s))]) (a5) (fun bk7 hb7 s => ?_)
    obtain ⟨a5, rfl⟩ : ∃ z, z = s := ⟨s, rfl⟩
    show GJ X 6 (xWo g σ0 (cx_s X).heap) Q (j6_indexOfChar_b7 a0 a3 a4 a5 bk7) 7 [(0, rv g a0), (3, .int (iI a3)), (4, .int (iI a4)), (5, .int (iI a5))] []
    unfold j6_indexOfChar_b7
    refine gj_iload C dJ6_indexOfChar_7 3 rfl ?_
    refine gj_iload_n C dJ6_indexOfChar_9 1 rfl ?_
    refine gj_icmp_ge (tgt := 31) C dJ6_indexOfChar_10 (by decide) rfl rfl (fun h10 => gj_neg h10 ?_) (fun h10 => gj_pos h10 ?_)
    · refine gj_iconst C dJ6_indexOfChar_31 ?_
      exact gx_iret C hQ hr dJ6_indexOfChar_32
    · refine gx_aload_n C dJ6_indexOfChar_13 0 rfl ?_
      refine gj_iload C dJ6_indexOfChar_14 3 rfl ?_
      refine gx_kbald C E dJ6_indexOfChar_16 (fun v16 => ?_)
      refine gj_iload C dJ6_indexOfChar_17 2 rfl ?_
      refine gj_icmp_ne (tgt := 25) C dJ6_indexOfChar_19 (by decide) rfl rfl (fun h19 => gj_neg h19 ?_) (fun h19 => gj_pos h19 ?_)
      · refine gj_iinc (L' := [(5, _), (0, _), (3, _), (4, _)]) C dJ6_indexOfChar_25 3 rfl (by decide) rfl ?_
        refine gj_goto (tgt := 7) C dJ6_indexOfChar_28 (by decide) ?_
        exact gj_to [1, 2, 3, 0] (hb7 (a5 + 1)) rfl
      · refine gj_iload C dJ6_indexOfChar_22 3 rfl ?_
        refine gj_nrmI ?_
        exact gx_iret C hQ hr dJ6_indexOfChar_24
  unfold j6_indexOfChar
  refine gj_iload_n C dJ6_indexOfChar_0 1 rfl ?_
  refine gj_i2b C dJ6_indexOfChar_1 ?_
  refine gj_let (fun x2 => ?_)
  refine gj_istore (L' := [(4, _), (0, _), (1, _), (2, _), (3, _)]) C dJ6_indexOfChar_2 (by decide) rfl ?_
  refine gj_iload_n C dJ6_indexOfChar_4 3 rfl ?_
  refine gj_istore (L' := [(5, _), (4, _), (0, _), (1, _), (2, _), (3, _)]) C dJ6_indexOfChar_5 (by decide) rfl ?_
  exact gj_to [2, 5, 1, 0] (J7 a0 a3 x2 a2) rfl
def j6_indexOf (a0 : Option Nat) (a1 a2 a3 : Int) : PT Hp Int :=
  pbnd (j6_canEncode a1) fun v1 =>
  pite (w32 v1 = 0) (
    pret (-1)) (
    plet (zmax a2 0) fun x14 =>
    pbnd (xklen a0) fun v17 =>
    plet (zmin a3 v17) fun x21 =>
    pite (w32 x14 < w32 x21) (
      pbnd (j6_indexOfChar a0 a1 x14 x21) fun v33 =>
      pret v33) (
      pret (-1)))
set_option maxHeartbeats 4000000 in
set_option maxRecDepth 100000 in
theorem mj6_indexOf (l : Launch) (g : XG) (a0 : Option Nat) (a1 a2 a3 : Int) : XMet l g yJ6_indexOf cJ6_indexOf 4 (Option.some Jvm.ClassFile.FieldType.int) (1) [rv g a0, .int (iI a1), .int (iI a2), .int (iI a3)] (j6_indexOf a0 a1 a2 a3) rvI := by
  refine gx_start (by decide +kernel) (by have e := lg_sl_len [rv g a0, .int (iI a1), .int (iI a2), .int (iI a3)]; simp only [List.map_cons, List.map_nil, List.sum_cons, List.sum_nil, rv_cat, cat_int, cat_long] at e; omega) (fun X Q σ0 hl C E hQ hR hr hnm => ?_)
  subst hl
  rw [show lv_args 0 [rv g a0, .int (iI a1), .int (iI a2), .int (iI a3)] = [(0, rv g a0), (1, .int (iI a1)), (2, .int (iI a2)), (3, .int (iI a3))] from by simp [lv_args, rv_cat, cat_int, cat_long]]
  show GJ X 4 (xWo g σ0 (cx_s X).heap) Q (j6_indexOf a0 a1 a2 a3) 0 [(0, rv g a0), (1, .int (iI a1)), (2, .int (iI a2)), (3, .int (iI a3))] []
  unfold j6_indexOf
  refine gj_iload_n C dJ6_indexOf_0 1 rfl ?_
  refine gx_callSI (As := [.int (iI a1)]) (rest := []) C E dJ6_indexOf_1 (mj6_canEncode (cx_l X) g a1) (lw_S q510 q511 q136 q512) hyx_J6_canEncode hR (Nat.le_of_ble_eq_true rfl) (by decide) rfl rfl (Nat.zero_le _) (fun v1 => ?_)
  refine gj_if_ne (tgt := 9) C dJ6_indexOf_4 (by decide) (fun h4 => gj_neg h4 ?_) (fun h4 => gj_pos h4 ?_)
  · refine gj_iload_n C dJ6_indexOf_9 2 rfl ?_
    refine gj_iconst C dJ6_indexOf_10 ?_
    refine gx_max C E dJ6_indexOf_11 q513 q514 q137 q515 hR (Nat.le_of_ble_eq_true rfl) (Nat.zero_le _) ?_
    refine gj_let (fun x14 => ?_)
    refine gj_istore_n (L' := [(2, _), (0, _), (1, _), (3, _)]) C dJ6_indexOf_14 (by decide) rfl ?_
    refine gj_iload_n C dJ6_indexOf_15 3 rfl ?_
    refine gx_aload_n C dJ6_indexOf_16 1 rfl ?_
    refine gx_klen C E dJ6_indexOf_17 (fun v17 => ?_)
    refine gx_min C E dJ6_indexOf_18 q516 q517 q137 q518 hR (Nat.le_of_ble_eq_true rfl) (Nat.zero_le _) ?_
    refine gj_let (fun x21 => ?_)
    refine gj_istore_n (L' := [(3, _), (2, _), (0, _), (1, _)]) C dJ6_indexOf_21 (by decide) rfl ?_
    refine gj_iload_n C dJ6_indexOf_22 1 rfl ?_
    refine gj_iload_n C dJ6_indexOf_23 0 rfl ?_
    refine gj_icmp_lt (tgt := 29) C dJ6_indexOf_24 (by decide) rfl rfl (fun h24 => gj_pos h24 ?_) (fun h24 => gj_neg h24 ?_)
    · refine gx_aload_n C dJ6_indexOf_29 2 rfl ?_
      refine gj_iload_n C dJ6_indexOf_30 3 rfl ?_
      refine gj_iload_n C dJ6_indexOf_31 1 rfl ?_
      refine gj_iload_n C dJ6_indexOf_32 0 rfl ?_
      refine gx_callSI (As := [rv g a0, .int (iI a1), .int (iI x14), .int (iI x21)]) (rest := []) C E dJ6_indexOf_33 (mj6_indexOfChar (cx_l X) g a0 a1 x14 x21) (lw_S q519 q520 q136 q521) hyx_J6_indexOfChar hR (Nat.le_of_ble_eq_true rfl) (by decide) rfl rfl (Nat.zero_le _) (fun v33 => ?_)
      exact gx_iret C hQ hr dJ6_indexOf_36
    · refine gj_iconst C dJ6_indexOf_27 ?_
      exact gx_iret C hQ hr dJ6_indexOf_28
  · refine gj_iconst C dJ6_indexOf_7 ?_
    exact gx_iret C hQ hr dJ6_indexOf_8
def j5_indexOf_2 (a0 : Option Nat) (a1 a2 : Int) : PT Hp Int :=
  pbnd (xrecv a0 29) fun _ =>
  pbnd (j5_isLatin1 a0) fun v1 =>
  pite (w32 v1 = 0) (
    pbnd (xkgR a0) fun v24 =>
    pbnd (xrecv a0 29) fun _ =>
    pbnd (j5_length a0) fun v30 =>
    pfail) (
    pbnd (xkgR a0) fun v8 =>
    pbnd (xrecv a0 29) fun _ =>
    pbnd (j5_length a0) fun v14 =>
    pbnd (j6_indexOf v8 a1 a2 v14) fun v17 =>
    pret v17)
set_option maxHeartbeats 4000000 in
set_option maxRecDepth 100000 in
theorem mj5_indexOf_2 (l : Launch) (g : XG) (a0 : Option Nat) (a1 a2 : Int) : XMet l g yJ5_indexOf_2 cJ5_indexOf_2 3 (Option.some Jvm.ClassFile.FieldType.int) (2) [rv g a0, .int (iI a1), .int (iI a2)] (j5_indexOf_2 a0 a1 a2) rvI := by
  refine gx_start (by decide +kernel) (by have e := lg_sl_len [rv g a0, .int (iI a1), .int (iI a2)]; simp only [List.map_cons, List.map_nil, List.sum_cons, List.sum_nil, rv_cat, cat_int, cat_long] at e; omega) (fun X Q σ0 hl C E hQ hR hr hnm => ?_)
  subst hl
  rw [show lv_args 0 [rv g a0, .int (iI a1), .int (iI a2)] = [(0, rv g a0), (1, .int (iI a1)), (2, .int (iI a2))] from by simp [lv_args, rv_cat, cat_int, cat_long]]
  show GJ X 3 (xWo g σ0 (cx_s X).heap) Q (j5_indexOf_2 a0 a1 a2) 0 [(0, rv g a0), (1, .int (iI a1)), (2, .int (iI a2))] []
  unfold j5_indexOf_2
  refine gx_aload_n C dJ5_indexOf_2_0 0 rfl ?_
  refine gx_callKI (As := []) (rest := []) C E dJ5_indexOf_2_1 (mj5_isLatin1 (cx_l X) g a0) (lw_V q493 q494 q495 q135 q496) hyx_J5_isLatin1 rfl hR (Nat.le_of_ble_eq_true rfl) (by decide) rfl rfl (Nat.zero_le _) (fun v1 => ?_)
  refine gj_if_eq (tgt := 23) C dJ5_indexOf_2_4 (by decide) (fun h4 => gj_pos h4 ?_) (fun h4 => gj_neg h4 ?_)
  · refine gx_aload_n C dJ5_indexOf_2_23 0 rfl ?_
    refine gx_kgR C E dJ5_indexOf_2_24 q840 (fun v24 => ?_)
    refine gj_iload_n C dJ5_indexOf_2_27 1 rfl ?_
    refine gj_iload_n C dJ5_indexOf_2_28 2 rfl ?_
    refine gx_aload_n C dJ5_indexOf_2_29 0 rfl ?_
    refine gx_callKI (As := []) (rest := [.int (iI a2), .int (iI a1), rv g v24]) C E dJ5_indexOf_2_30 (mj5_length (cx_l X) g a0) (lw_V q499 q500 q501 q135 q502) hyx_J5_length rfl hR (Nat.le_of_ble_eq_true rfl) (by decide) rfl rfl (by simp only [List.map_cons, List.map_nil, List.sum_cons, List.sum_nil, rv_cat, cat_int, cat_long]; decide) (fun v30 => ?_)
    exact gj_fail
  · refine gx_aload_n C dJ5_indexOf_2_7 0 rfl ?_
    refine gx_kgR C E dJ5_indexOf_2_8 q840 (fun v8 => ?_)
    refine gj_iload_n C dJ5_indexOf_2_11 1 rfl ?_
    refine gj_iload_n C dJ5_indexOf_2_12 2 rfl ?_
    refine gx_aload_n C dJ5_indexOf_2_13 0 rfl ?_
    refine gx_callKI (As := []) (rest := [.int (iI a2), .int (iI a1), rv g v8]) C E dJ5_indexOf_2_14 (mj5_length (cx_l X) g a0) (lw_V q499 q500 q501 q135 q502) hyx_J5_length rfl hR (Nat.le_of_ble_eq_true rfl) (by decide) rfl rfl (by simp only [List.map_cons, List.map_nil, List.sum_cons, List.sum_nil, rv_cat, cat_int, cat_long]; decide) (fun v14 => ?_)
    refine gx_callSI (As := [rv g v8, .int (iI a1), .int (iI a2), .int (iI v14)]) (rest := []) C E dJ5_indexOf_2_17 (mj6_indexOf (cx_l X) g v8 a1 a2 v14) (lw_S q507 q508 q136 q509) hyx_J6_indexOf hR (Nat.le_of_ble_eq_true rfl) (by decide) rfl rfl (Nat.zero_le _) (fun v17 => ?_)
    refine gj_goto (tgt := 36) C dJ5_indexOf_2_20 (by decide) ?_
    exact gx_iret C hQ hr dJ5_indexOf_2_36
def j5_indexOf (a0 : Option Nat) (a1 : Int) : PT Hp Int :=
  pbnd (xrecv a0 29) fun _ =>
  pbnd (j5_indexOf_2 a0 a1 0) fun v3 =>
  pret v3
set_option maxHeartbeats 4000000 in
set_option maxRecDepth 100000 in
theorem mj5_indexOf (l : Launch) (g : XG) (a0 : Option Nat) (a1 : Int) : XMet l g yJ5_indexOf cJ5_indexOf 2 (Option.some Jvm.ClassFile.FieldType.int) (3) [rv g a0, .int (iI a1)] (j5_indexOf a0 a1) rvI := by
  refine gx_start (by decide +kernel) (by have e := lg_sl_len [rv g a0, .int (iI a1)]; simp only [List.map_cons, List.map_nil, List.sum_cons, List.sum_nil, rv_cat, cat_int, cat_long] at e; omega) (fun X Q σ0 hl C E hQ hR hr hnm => ?_)
  subst hl
  rw [show lv_args 0 [rv g a0, .int (iI a1)] = [(0, rv g a0), (1, .int (iI a1))] from by simp [lv_args, rv_cat, cat_int, cat_long]]
  show GJ X 2 (xWo g σ0 (cx_s X).heap) Q (j5_indexOf a0 a1) 0 [(0, rv g a0), (1, .int (iI a1))] []
  unfold j5_indexOf
  refine gx_aload_n C dJ5_indexOf_0 0 rfl ?_
  refine gj_iload_n C dJ5_indexOf_1 1 rfl ?_
  refine gj_iconst C dJ5_indexOf_2 ?_
  refine gx_callKI (As := [.int (iI a1), .int (iI 0)]) (rest := []) C E dJ5_indexOf_3 (mj5_indexOf_2 (cx_l X) g a0 a1 0) (lw_V q489 q490 q491 q135 q492) hyx_J5_indexOf_2 rfl hR (Nat.le_of_ble_eq_true rfl) (by decide) rfl rfl (Nat.zero_le _) (fun v3 => ?_)
  exact gx_iret C hQ hr dJ5_indexOf_6
def x2_next_j219 (a0 s0 : Option Nat) (s1 : Int) (bk165 : Unit → PT Hp Unit) : PT Hp Unit :=
  pbnd (xpI s0 2 5 (w32 s1)) fun _ =>
  pbnd (xgI a0 2 2) fun v224 =>
  pbnd (xpI a0 2 2 (w32 (v224 + 1))) fun _ =>
  bk165 ()
def x2_next_b165 (a0 : Option Nat) (bk165 : Unit → PT Hp Unit) : PT Hp Unit :=
  pbnd (xgI a0 2 2) fun v167 =>
  pbnd (xrecv a0 2) fun _ =>
  pbnd (x2_at a0 v167) fun v170 =>
  pbnd (x2_isDigit v170) fun v173 =>
  pite (w32 v173 = 0) (
    pbnd (xgI a0 2 2) fun v237 =>
    pbnd (xgI a0 2 4) fun v241 =>
    plet (if 4 < w32 ((v237 - v241)) then 4 else 2) fun d254 =>
    pbnd (xpI a0 2 3 (w32 d254)) fun _ =>
    pret ()) (
    pbnd (xgI a0 2 2) fun v181 =>
    pbnd (xgI a0 2 4) fun v185 =>
    pite (w32 ((v181 - v185)) < 4) (
      pbnd (xgI a0 2 5) fun v196 =>
      pbnd (xgI a0 2 2) fun v202 =>
      pbnd (xrecv a0 2) fun _ =>
      pbnd (x2_at a0 v202) fun v205 =>
      x2_next_j219 a0 a0 (((((10 * v196)) + v205)) - 48) bk165) (
      pbnd (xgI a0 2 5) fun v216 =>
      x2_next_j219 a0 a0 v216 bk165))
def x2_next_l165 (a0 : Option Nat) : PT Hp Unit :=
  ploop (fun (s : Unit) bk165 => x2_next_b165 a0 bk165) ()
def x2_next_b93 (a0 : Option Nat) (bk93 : Unit → PT Hp Unit) : PT Hp Unit :=
  pbnd (xgI a0 2 2) fun v95 =>
  pbnd (xrecv a0 2) fun _ =>
  pbnd (x2_at a0 v95) fun v98 =>
  pbnd (x2_isLetter v98) fun v101 =>
  pite (w32 v101 = 0) (
    pbnd (xgI a0 2 2) fun v122 =>
    pbnd (xgI a0 2 4) fun v126 =>
    plet (if 8 < w32 ((v122 - v126)) then 4 else 1) fun d140 =>
    pbnd (xpI a0 2 3 (w32 d140)) fun _ =>
    pret ()) (
    pbnd (xgI a0 2 2) fun v109 =>
    pbnd (xpI a0 2 2 (w32 (v109 + 1))) fun _ =>
    bk93 ())
def x2_next_l93 (a0 : Option Nat) : PT Hp Unit :=
  ploop (fun (s : Unit) bk93 => x2_next_b93 a0 bk93) ()
def x2_next_j52 (a0 : Option Nat) : PT Hp Unit :=
  pbnd (xgI a0 2 2) fun v54 =>
  pbnd (xpI a0 2 4 v54) fun _ =>
  pbnd (xgI a0 2 2) fun v61 =>
  pbnd (xgI a0 2 1) fun v65 =>
  pite (w32 v61 = w32 v65) (
    pbnd (xpI a0 2 3 0) fun _ =>
    pret ()) (
    pbnd (xgI a0 2 2) fun v81 =>
    pbnd (xrecv a0 2) fun _ =>
    pbnd (x2_at a0 v81) fun v84 =>
    pbnd (x2_isLetter v84) fun v87 =>
    pite (w32 v87 = 0) (
      pbnd (xgI a0 2 2) fun v148 =>
      pbnd (xrecv a0 2) fun _ =>
      pbnd (x2_at a0 v148) fun v151 =>
      pbnd (x2_isDigit v151) fun v154 =>
      pite (w32 v154 = 0) (
        pbnd (xgI a0 2 2) fun v265 =>
        pbnd (xrecv a0 2) fun _ =>
        pbnd (x2_at a0 v265) fun v268 =>
        pbnd (xrecv ((some (CB + 0))) 29) fun _ =>
        pbnd (j5_indexOf ((some (CB + 0))) (zi2c v268)) fun v272 =>
        plet (if w32 v272 < 0 then 4 else 3) fun d283 =>
        pbnd (xpI a0 2 3 (w32 d283)) fun _ =>
        pbnd (xgI a0 2 2) fun v288 =>
        pbnd (xpI a0 2 2 (w32 (v288 + 1))) fun _ =>
        pret ()) (
        pbnd (xpI a0 2 5 0) fun _ =>
        x2_next_l165 a0)) (
      x2_next_l93 a0))
def x2_next_j39 (a0 : Option Nat) (bk0 : Unit → PT Hp Unit) : PT Hp Unit :=
  pbnd (xgI a0 2 2) fun v41 =>
  pbnd (xpI a0 2 2 (w32 (v41 + 1))) fun _ =>
  bk0 ()
def x2_next_b0 (a0 : Option Nat) (bk0 : Unit → PT Hp Unit) : PT Hp Unit :=
  pbnd (xgI a0 2 2) fun v1 =>
  pbnd (xgI a0 2 1) fun v5 =>
  pite (w32 v1 < w32 v5) (
    pbnd (xgR a0 2 0) fun v12 =>
    pbnd (xgI a0 2 2) fun v16 =>
    pbnd (xld v12 43 v16) fun v19 =>
    pite (w32 v19 = 10) (
      x2_next_j39 a0 bk0) (
      pbnd (xgR a0 2 0) fun v26 =>
      pbnd (xgI a0 2 2) fun v30 =>
      pbnd (xld v26 43 v30) fun v33 =>
      pite (w32 v33 = 32) (
        x2_next_j39 a0 bk0) (
        x2_next_j52 a0))) (
    x2_next_j52 a0)
def x2_next_l0 (a0 : Option Nat) : PT Hp Unit :=
  ploop (fun (s : Unit) bk0 => x2_next_b0 a0 bk0) ()
def x2_next (a0 : Option Nat) : PT Hp Unit :=
  x2_next_l0 a0
set_option maxHeartbeats 4000000 in
set_option maxRecDepth 100000 in
theorem mx2_next (l : Launch) (g : XG) (a0 : Option Nat) : XMet l g yX2_next cX2_next 1 (Option.none : Option Jvm.ClassFile.FieldType) (4) [rv g a0] (x2_next a0) rvV := by
  refine gx_start (by decide +kernel) (by have e := lg_sl_len [rv g a0]; simp only [List.map_cons, List.map_nil, List.sum_cons, List.sum_nil, rv_cat, cat_int, cat_long] at e; omega) (fun X Q σ0 hl C E hQ hR hr hnm => ?_)
  subst hl
  rw [show lv_args 0 [rv g a0] = [(0, rv g a0)] from by simp [lv_args, rv_cat, cat_int, cat_long]]
  show GJ X 1 (xWo g σ0 (cx_s X).heap) Q (x2_next a0) 0 [(0, rv g a0)] []
  have J165 : ∀ (a0 : Option Nat), GJ X 1 (xWo g σ0 (cx_s X).heap) Q (x2_next_l165 a0) 165 [(0, rv g a0)] [] := by
    intro a0
    unfold x2_next_l165
    refine gj_loop (fun (s : Unit) => [(0, rv g a0)]) () (fun bk165 hb165 s => ?_)
    show GJ X 1 (xWo g σ0 (cx_s X).heap) Q (x2_next_b165 a0 bk165) 165 [(0, rv g a0)] []
    have J219 : ∀ (s0 : Option Nat) (s1 : Int), GJ X 1 (xWo g σ0 (cx_s X).heap) Q (x2_next_j219 a0 s0 s1 bk165) 219 [(0, rv g a0)] [.int (iI s1), rv g s0] := by
      intro s0 s1
      unfold x2_next_j219
      refine gj_nrmI ?_
      refine gx_pI (O := "BorrowedLives$Reader") (nm := "value") (ds := "I") (fin := false) (ty := .int) C E dX2_next_219 (by decide +kernel) (Or.inl q193) (fun _ h => h) (fun h => by cases h) (by decide +kernel) (inty_int _) ?_
      refine gx_aload_n C dX2_next_222 0 rfl ?_
      refine gx_dup C dX2_next_223 ?_
      refine gx_gI (O := "BorrowedLives$Reader") (nm := "to") (ds := "I") (fin := false) C E dX2_next_224 (by decide +kernel) (Or.inl q190) (fun _ h => h) (fun v224 => ?_)
      refine gj_iconst C dX2_next_227 ?_
      refine gj_iadd C dX2_next_228 ?_
      refine gj_nrmI ?_
      refine gx_pI (O := "BorrowedLives$Reader") (nm := "to") (ds := "I") (fin := false) (ty := .int) C E dX2_next_229 (by decide +kernel) (Or.inl q190) (fun _ h => h) (fun h => by cases h) (by decide +kernel) (inty_int _) ?_
      refine gj_goto (tgt := 165) C dX2_next_232 (by decide) ?_
      exact gj_to [0] (hb165 ()) rfl
    unfold x2_next_b165
    refine gx_aload_n C dX2_next_165 0 rfl ?_
    refine gx_aload_n C dX2_next_166 0 rfl ?_
    refine gx_gI (O := "BorrowedLives$Reader") (nm := "to") (ds := "I") (fin := false) C E dX2_next_167 (by decide +kernel) (Or.inl q190) (fun _ h => h) (fun v167 => ?_)
    refine gx_callVI (t0 := 2) (As := [.int (iI v167)]) (rest := []) C E rfl dX2_next_170 (mx2_at (cx_l X) g a0 v167) (lw_V q474 q476 qs2 q126 q477) hyx_X2_at rfl hR (Nat.le_of_ble_eq_true rfl) (by decide) rfl rfl (Nat.zero_le _) (fun v170 => ?_)
    refine gx_callSI (As := [.int (iI v170)]) (rest := []) C E dX2_next_173 (mx2_isDigit (cx_l X) g v170) (lw_S q481 q482 q126 q483) hyx_X2_isDigit hR (Nat.le_of_ble_eq_true rfl) (by decide) rfl rfl (Nat.zero_le _) (fun v173 => ?_)
    refine gj_if_eq (tgt := 235) C dX2_next_176 (by decide) (fun h176 => gj_pos h176 ?_) (fun h176 => gj_neg h176 ?_)
    · refine gx_aload_n C dX2_next_235 0 rfl ?_
      refine gx_aload_n C dX2_next_236 0 rfl ?_
      refine gx_gI (O := "BorrowedLives$Reader") (nm := "to") (ds := "I") (fin := false) C E dX2_next_237 (by decide +kernel) (Or.inl q190) (fun _ h => h) (fun v237 => ?_)
      refine gx_aload_n C dX2_next_240 0 rfl ?_
      refine gx_gI (O := "BorrowedLives$Reader") (nm := "from") (ds := "I") (fin := false) C E dX2_next_241 (by decide +kernel) (Or.inl q192) (fun _ h => h) (fun v241 => ?_)
      refine gj_isub C dX2_next_244 ?_
      refine gj_iconst C dX2_next_245 ?_
      refine gj_dia (J := 254) (L := [(0, rv g a0)]) (st := [rv g a0]) (fun d254 => ?_) (fun t hJ => ?_)
      · skip
        refine gj_nrmI ?_
        refine gx_pI (O := "BorrowedLives$Reader") (nm := "kind") (ds := "I") (fin := false) (ty := .int) C E dX2_next_254 (by decide +kernel) (Or.inl q191) (fun _ h => h) (fun h => by cases h) (by decide +kernel) (inty_int _) ?_
        refine gj_goto (tgt := 296) C dX2_next_257 (by decide) ?_
        exact gx_vret C hQ hr dX2_next_296
      · refine gj_icmp_le (tgt := 253) (b' := 4) C dX2_next_246 (by decide) rfl (by decide) (fun h246 => ?_) (fun h246 => ?_)
        · refine gj_iconst C dX2_next_253 ?_
          exact (by rw [if_neg h246] at hJ; exact hJ)
        · refine gj_iconst C dX2_next_249 ?_
          refine gj_goto (tgt := 254) C dX2_next_250 (by decide) ?_
          exact (by rw [if_pos h246] at hJ; exact hJ)
    · refine gx_aload_n C dX2_next_179 0 rfl ?_
      refine gx_aload_n C dX2_next_180 0 rfl ?_
      refine gx_gI (O := "BorrowedLives$Reader") (nm := "to") (ds := "I") (fin := false) C E dX2_next_181 (by decide +kernel) (Or.inl q190) (fun _ h => h) (fun v181 => ?_)
      refine gx_aload_n C dX2_next_184 0 rfl ?_
      refine gx_gI (O := "BorrowedLives$Reader") (nm := "from") (ds := "I") (fin := false) C E dX2_next_185 (by decide +kernel) (Or.inl q192) (fun _ h => h) (fun v185 => ?_)
      refine gj_isub C dX2_next_188 ?_
      refine gj_iconst C dX2_next_189 ?_
      refine gj_icmp_ge (tgt := 215) (b' := 4) C dX2_next_190 (by decide) rfl (by decide) (fun h190 => gj_neg h190 ?_) (fun h190 => gj_pos h190 ?_)
      · refine gx_aload_n C dX2_next_215 0 rfl ?_
        refine gx_gI (O := "BorrowedLives$Reader") (nm := "value") (ds := "I") (fin := false) C E dX2_next_216 (by decide +kernel) (Or.inl q193) (fun _ h => h) (fun v216 => ?_)
        exact gj_to [0] (J219 a0 v216) rfl
      · refine gj_bipush C dX2_next_193 rfl ?_
        refine gx_aload_n C dX2_next_195 0 rfl ?_
        refine gx_gI (O := "BorrowedLives$Reader") (nm := "value") (ds := "I") (fin := false) C E dX2_next_196 (by decide +kernel) (Or.inl q193) (fun _ h => h) (fun v196 => ?_)
        refine gj_imul C dX2_next_199 ?_
        refine gx_aload_n C dX2_next_200 0 rfl ?_
        refine gx_aload_n C dX2_next_201 0 rfl ?_
        refine gx_gI (O := "BorrowedLives$Reader") (nm := "to") (ds := "I") (fin := false) C E dX2_next_202 (by decide +kernel) (Or.inl q190) (fun _ h => h) (fun v202 => ?_)
        refine gx_callVI (t0 := 2) (As := [.int (iI v202)]) (rest := [.int (iI ((10 * v196))), rv g a0]) C E rfl dX2_next_205 (mx2_at (cx_l X) g a0 v202) (lw_V q474 q476 qs2 q126 q477) hyx_X2_at rfl hR (Nat.le_of_ble_eq_true rfl) (by decide) rfl rfl (by simp only [List.map_cons, List.map_nil, List.sum_cons, List.sum_nil, rv_cat, cat_int, cat_long]; decide) (fun v205 => ?_)
        refine gj_iadd C dX2_next_208 ?_
        refine gj_bipush C dX2_next_209 rfl ?_
        refine gj_isub C dX2_next_211 ?_
        refine gj_goto (tgt := 219) C dX2_next_212 (by decide) ?_
        exact gj_to [0] (J219 a0 (((((10 * v196)) + v205)) - 48)) rfl
  have J93 : ∀ (a0 : Option Nat), GJ X 1 (xWo g σ0 (cx_s X).heap) Q (x2_next_l93 a0) 93 [(0, rv g a0)] [] := by
    intro a0
    unfold x2_next_l93
    refine gj_loop (fun (s : Unit) => [(0, rv g a0)]) () (fun bk93 hb93 s => ?_)
    show GJ X 1 (xWo g σ0 (cx_s X).heap) Q (x2_next_b93 a0 bk93) 93 [(0, rv g a0)] []
    unfold x2_next_b93
    refine gx_aload_n C dX2_next_93 0 rfl ?_
    refine gx_aload_n C dX2_next_94 0 rfl ?_
    refine gx_gI (O := "BorrowedLives$Reader") (nm := "to") (ds := "I") (fin := false) C E dX2_next_95 (by decide +kernel) (Or.inl q190) (fun _ h => h) (fun v95 => ?_)
    refine gx_callVI (t0 := 2) (As := [.int (iI v95)]) (rest := []) C E rfl dX2_next_98 (mx2_at (cx_l X) g a0 v95) (lw_V q474 q476 qs2 q126 q477) hyx_X2_at rfl hR (Nat.le_of_ble_eq_true rfl) (by decide) rfl rfl (Nat.zero_le _) (fun v98 => ?_)
    refine gx_callSI (As := [.int (iI v98)]) (rest := []) C E dX2_next_101 (mx2_isLetter (cx_l X) g v98) (lw_S q478 q479 q126 q480) hyx_X2_isLetter hR (Nat.le_of_ble_eq_true rfl) (by decide) rfl rfl (Nat.zero_le _) (fun v101 => ?_)
    refine gj_if_eq (tgt := 120) C dX2_next_104 (by decide) (fun h104 => gj_pos h104 ?_) (fun h104 => gj_neg h104 ?_)
    · refine gx_aload_n C dX2_next_120 0 rfl ?_
      refine gx_aload_n C dX2_next_121 0 rfl ?_
      refine gx_gI (O := "BorrowedLives$Reader") (nm := "to") (ds := "I") (fin := false) C E dX2_next_122 (by decide +kernel) (Or.inl q190) (fun _ h => h) (fun v122 => ?_)
      refine gx_aload_n C dX2_next_125 0 rfl ?_
      refine gx_gI (O := "BorrowedLives$Reader") (nm := "from") (ds := "I") (fin := false) C E dX2_next_126 (by decide +kernel) (Or.inl q192) (fun _ h => h) (fun v126 => ?_)
      refine gj_isub C dX2_next_129 ?_
      refine gj_bipush C dX2_next_130 rfl ?_
      refine gj_dia (J := 140) (L := [(0, rv g a0)]) (st := [rv g a0]) (fun d140 => ?_) (fun t hJ => ?_)
      · skip
        refine gj_nrmI ?_
        refine gx_pI (O := "BorrowedLives$Reader") (nm := "kind") (ds := "I") (fin := false) (ty := .int) C E dX2_next_140 (by decide +kernel) (Or.inl q191) (fun _ h => h) (fun h => by cases h) (by decide +kernel) (inty_int _) ?_
        refine gj_goto (tgt := 296) C dX2_next_143 (by decide) ?_
        exact gx_vret C hQ hr dX2_next_296
      · refine gj_icmp_le (tgt := 139) (b' := 8) C dX2_next_132 (by decide) rfl (by decide) (fun h132 => ?_) (fun h132 => ?_)
        · refine gj_iconst C dX2_next_139 ?_
          exact (by rw [if_neg h132] at hJ; exact hJ)
        · refine gj_iconst C dX2_next_135 ?_
          refine gj_goto (tgt := 140) C dX2_next_136 (by decide) ?_
          exact (by rw [if_pos h132] at hJ; exact hJ)
    · refine gx_aload_n C dX2_next_107 0 rfl ?_
      refine gx_dup C dX2_next_108 ?_
      refine gx_gI (O := "BorrowedLives$Reader") (nm := "to") (ds := "I") (fin := false) C E dX2_next_109 (by decide +kernel) (Or.inl q190) (fun _ h => h) (fun v109 => ?_)
      refine gj_iconst C dX2_next_112 ?_
      refine gj_iadd C dX2_next_113 ?_
      refine gj_nrmI ?_
      refine gx_pI (O := "BorrowedLives$Reader") (nm := "to") (ds := "I") (fin := false) (ty := .int) C E dX2_next_114 (by decide +kernel) (Or.inl q190) (fun _ h => h) (fun h => by cases h) (by decide +kernel) (inty_int _) ?_
      refine gj_goto (tgt := 93) C dX2_next_117 (by decide) ?_
      exact gj_to [0] (hb93 ()) rfl
  have J52 : ∀ (a0 : Option Nat), GJ X 1 (xWo g σ0 (cx_s X).heap) Q (x2_next_j52 a0) 52 [(0, rv g a0)] [] := by
    intro a0
    unfold x2_next_j52
    refine gx_aload_n C dX2_next_52 0 rfl ?_
    refine gx_aload_n C dX2_next_53 0 rfl ?_
    refine gx_gI (O := "BorrowedLives$Reader") (nm := "to") (ds := "I") (fin := false) C E dX2_next_54 (by decide +kernel) (Or.inl q190) (fun _ h => h) (fun v54 => ?_)
    refine gx_pI (O := "BorrowedLives$Reader") (nm := "from") (ds := "I") (fin := false) (ty := .int) C E dX2_next_57 (by decide +kernel) (Or.inl q192) (fun _ h => h) (fun h => by cases h) (by decide +kernel) (inty_int _) ?_
    refine gx_aload_n C dX2_next_60 0 rfl ?_
    refine gx_gI (O := "BorrowedLives$Reader") (nm := "to") (ds := "I") (fin := false) C E dX2_next_61 (by decide +kernel) (Or.inl q190) (fun _ h => h) (fun v61 => ?_)
    refine gx_aload_n C dX2_next_64 0 rfl ?_
    refine gx_gI (O := "BorrowedLives$Reader") (nm := "size") (ds := "I") (fin := false) C E dX2_next_65 (by decide +kernel) (Or.inl q189) (fun _ h => h) (fun v65 => ?_)
    refine gj_icmp_ne (tgt := 79) C dX2_next_68 (by decide) rfl rfl (fun h68 => gj_neg h68 ?_) (fun h68 => gj_pos h68 ?_)
    · refine gx_aload_n C dX2_next_79 0 rfl ?_
      refine gx_aload_n C dX2_next_80 0 rfl ?_
      refine gx_gI (O := "BorrowedLives$Reader") (nm := "to") (ds := "I") (fin := false) C E dX2_next_81 (by decide +kernel) (Or.inl q190) (fun _ h => h) (fun v81 => ?_)
      refine gx_callVI (t0 := 2) (As := [.int (iI v81)]) (rest := []) C E rfl dX2_next_84 (mx2_at (cx_l X) g a0 v81) (lw_V q474 q476 qs2 q126 q477) hyx_X2_at rfl hR (Nat.le_of_ble_eq_true rfl) (by decide) rfl rfl (Nat.zero_le _) (fun v84 => ?_)
      refine gx_callSI (As := [.int (iI v84)]) (rest := []) C E dX2_next_87 (mx2_isLetter (cx_l X) g v84) (lw_S q478 q479 q126 q480) hyx_X2_isLetter hR (Nat.le_of_ble_eq_true rfl) (by decide) rfl rfl (Nat.zero_le _) (fun v87 => ?_)
      refine gj_if_eq (tgt := 146) C dX2_next_90 (by decide) (fun h90 => gj_pos h90 ?_) (fun h90 => gj_neg h90 ?_)
      · refine gx_aload_n C dX2_next_146 0 rfl ?_
        refine gx_aload_n C dX2_next_147 0 rfl ?_
        refine gx_gI (O := "BorrowedLives$Reader") (nm := "to") (ds := "I") (fin := false) C E dX2_next_148 (by decide +kernel) (Or.inl q190) (fun _ h => h) (fun v148 => ?_)
        refine gx_callVI (t0 := 2) (As := [.int (iI v148)]) (rest := []) C E rfl dX2_next_151 (mx2_at (cx_l X) g a0 v148) (lw_V q474 q476 qs2 q126 q477) hyx_X2_at rfl hR (Nat.le_of_ble_eq_true rfl) (by decide) rfl rfl (Nat.zero_le _) (fun v151 => ?_)
        refine gx_callSI (As := [.int (iI v151)]) (rest := []) C E dX2_next_154 (mx2_isDigit (cx_l X) g v151) (lw_S q481 q482 q126 q483) hyx_X2_isDigit hR (Nat.le_of_ble_eq_true rfl) (by decide) rfl rfl (Nat.zero_le _) (fun v154 => ?_)
        refine gj_if_eq (tgt := 260) C dX2_next_157 (by decide) (fun h157 => gj_pos h157 ?_) (fun h157 => gj_neg h157 ?_)
        · refine gx_aload_n C dX2_next_260 0 rfl ?_
          refine gx_ldcS C E 0 (by decide) rfl dX2_next_261 ?_
          refine gx_aload_n C dX2_next_263 0 rfl ?_
          refine gx_aload_n C dX2_next_264 0 rfl ?_
          refine gx_gI (O := "BorrowedLives$Reader") (nm := "to") (ds := "I") (fin := false) C E dX2_next_265 (by decide +kernel) (Or.inl q190) (fun _ h => h) (fun v265 => ?_)
          refine gx_callVI (t0 := 2) (As := [.int (iI v265)]) (rest := [rv g ((some (CB + 0))), rv g a0]) C E rfl dX2_next_268 (mx2_at (cx_l X) g a0 v265) (lw_V q474 q476 qs2 q126 q477) hyx_X2_at rfl hR (Nat.le_of_ble_eq_true rfl) (by decide) rfl rfl (by simp only [List.map_cons, List.map_nil, List.sum_cons, List.sum_nil, rv_cat, cat_int, cat_long]; decide) (fun v268 => ?_)
          refine gj_i2c C dX2_next_271 ?_
          refine gx_callKI (As := [.int (iI (zi2c v268))]) (rest := [rv g a0]) C E dX2_next_272 (mj5_indexOf (cx_l X) g ((some (CB + 0))) (zi2c v268)) (lw_V q485 q486 q487 q135 q488) hyx_J5_indexOf rfl hR (Nat.le_of_ble_eq_true rfl) (by decide) rfl rfl (by simp only [List.map_cons, List.map_nil, List.sum_cons, List.sum_nil, rv_cat, cat_int, cat_long]; decide) (fun v272 => ?_)
          refine gj_dia (J := 283) (L := [(0, rv g a0)]) (st := [rv g a0]) (fun d283 => ?_) (fun t hJ => ?_)
          · skip
            refine gj_nrmI ?_
            refine gx_pI (O := "BorrowedLives$Reader") (nm := "kind") (ds := "I") (fin := false) (ty := .int) C E dX2_next_283 (by decide +kernel) (Or.inl q191) (fun _ h => h) (fun h => by cases h) (by decide +kernel) (inty_int _) ?_
            refine gx_aload_n C dX2_next_286 0 rfl ?_
            refine gx_dup C dX2_next_287 ?_
            refine gx_gI (O := "BorrowedLives$Reader") (nm := "to") (ds := "I") (fin := false) C E dX2_next_288 (by decide +kernel) (Or.inl q190) (fun _ h => h) (fun v288 => ?_)
            refine gj_iconst C dX2_next_291 ?_
            refine gj_iadd C dX2_next_292 ?_
            refine gj_nrmI ?_
            refine gx_pI (O := "BorrowedLives$Reader") (nm := "to") (ds := "I") (fin := false) (ty := .int) C E dX2_next_293 (by decide +kernel) (Or.inl q190) (fun _ h => h) (fun h => by cases h) (by decide +kernel) (inty_int _) ?_
            exact gx_vret C hQ hr dX2_next_296
          · refine gj_if_lt (tgt := 282) C dX2_next_275 (by decide) (fun h275 => ?_) (fun h275 => ?_)
            · refine gj_iconst C dX2_next_282 ?_
              exact (by rw [if_pos h275] at hJ; exact hJ)
            · refine gj_iconst C dX2_next_278 ?_
              refine gj_goto (tgt := 283) C dX2_next_279 (by decide) ?_
              exact (by rw [if_neg h275] at hJ; exact hJ)
        · refine gx_aload_n C dX2_next_160 0 rfl ?_
          refine gj_iconst C dX2_next_161 ?_
          refine gx_pI (O := "BorrowedLives$Reader") (nm := "value") (ds := "I") (fin := false) (ty := .int) C E dX2_next_162 (by decide +kernel) (Or.inl q193) (fun _ h => h) (fun h => by cases h) (by decide +kernel) (inty_int _) ?_
          exact gj_to [0] (J165 a0) rfl
      · exact gj_to [0] (J93 a0) rfl
    · refine gx_aload_n C dX2_next_71 0 rfl ?_
      refine gj_iconst C dX2_next_72 ?_
      refine gx_pI (O := "BorrowedLives$Reader") (nm := "kind") (ds := "I") (fin := false) (ty := .int) C E dX2_next_73 (by decide +kernel) (Or.inl q191) (fun _ h => h) (fun h => by cases h) (by decide +kernel) (inty_int _) ?_
      refine gj_goto (tgt := 296) C dX2_next_76 (by decide) ?_
      exact gx_vret C hQ hr dX2_next_296
  have J0 : ∀ (a0 : Option Nat), GJ X 1 (xWo g σ0 (cx_s X).heap) Q (x2_next_l0 a0) 0 [(0, rv g a0)] [] := by
    intro a0
    unfold x2_next_l0
    refine gj_loop (fun (s : Unit) => [(0, rv g a0)]) () (fun bk0 hb0 s => ?_)
    show GJ X 1 (xWo g σ0 (cx_s X).heap) Q (x2_next_b0 a0 bk0) 0 [(0, rv g a0)] []
    have J39 : GJ X 1 (xWo g σ0 (cx_s X).heap) Q (x2_next_j39 a0 bk0) 39 [(0, rv g a0)] [] := by
      unfold x2_next_j39
      refine gx_aload_n C dX2_next_39 0 rfl ?_
      refine gx_dup C dX2_next_40 ?_
      refine gx_gI (O := "BorrowedLives$Reader") (nm := "to") (ds := "I") (fin := false) C E dX2_next_41 (by decide +kernel) (Or.inl q190) (fun _ h => h) (fun v41 => ?_)
      refine gj_iconst C dX2_next_44 ?_
      refine gj_iadd C dX2_next_45 ?_
      refine gj_nrmI ?_
      refine gx_pI (O := "BorrowedLives$Reader") (nm := "to") (ds := "I") (fin := false) (ty := .int) C E dX2_next_46 (by decide +kernel) (Or.inl q190) (fun _ h => h) (fun h => by cases h) (by decide +kernel) (inty_int _) ?_
      refine gj_goto (tgt := 0) C dX2_next_49 (by decide) ?_
      exact gj_to [0] (hb0 ()) rfl
    unfold x2_next_b0
    refine gx_aload_n C dX2_next_0 0 rfl ?_
    refine gx_gI (O := "BorrowedLives$Reader") (nm := "to") (ds := "I") (fin := false) C E dX2_next_1 (by decide +kernel) (Or.inl q190) (fun _ h => h) (fun v1 => ?_)
    refine gx_aload_n C dX2_next_4 0 rfl ?_
    refine gx_gI (O := "BorrowedLives$Reader") (nm := "size") (ds := "I") (fin := false) C E dX2_next_5 (by decide +kernel) (Or.inl q189) (fun _ h => h) (fun v5 => ?_)
    refine gj_icmp_ge (tgt := 52) C dX2_next_8 (by decide) rfl rfl (fun h8 => gj_neg h8 ?_) (fun h8 => gj_pos h8 ?_)
    · exact gj_to [0] (J52 a0) rfl
    · refine gx_aload_n C dX2_next_11 0 rfl ?_
      refine gx_gR (O := "BorrowedLives$Reader") (nm := "text") (ds := "[B") (fin := false) C E dX2_next_12 (by decide +kernel) (Or.inl q188) (fun _ h => h) (fun v12 => ?_)
      refine gx_aload_n C dX2_next_15 0 rfl ?_
      refine gx_gI (O := "BorrowedLives$Reader") (nm := "to") (ds := "I") (fin := false) C E dX2_next_16 (by decide +kernel) (Or.inl q190) (fun _ h => h) (fun v16 => ?_)
      refine gx_bald C E dX2_next_19 (fun v19 => ?_)
      refine gj_bipush C dX2_next_20 rfl ?_
      refine gj_icmp_eq (tgt := 39) (b' := 10) C dX2_next_22 (by decide) rfl (by decide) (fun h22 => gj_pos h22 ?_) (fun h22 => gj_neg h22 ?_)
      · exact gj_to [0] (J39) rfl
      · refine gx_aload_n C dX2_next_25 0 rfl ?_
        refine gx_gR (O := "BorrowedLives$Reader") (nm := "text") (ds := "[B") (fin := false) C E dX2_next_26 (by decide +kernel) (Or.inl q188) (fun _ h => h) (fun v26 => ?_)
        refine gx_aload_n C dX2_next_29 0 rfl ?_
        refine gx_gI (O := "BorrowedLives$Reader") (nm := "to") (ds := "I") (fin := false) C E dX2_next_30 (by decide +kernel) (Or.inl q190) (fun _ h => h) (fun v30 => ?_)
        refine gx_bald C E dX2_next_33 (fun v33 => ?_)
        refine gj_bipush C dX2_next_34 rfl ?_
        refine gj_icmp_ne (tgt := 52) (b' := 32) C dX2_next_36 (by decide) rfl (by decide) (fun h36 => gj_neg h36 ?_) (fun h36 => gj_pos h36 ?_)
        · exact gj_to [0] (J52 a0) rfl
        · exact gj_to [0] (J39) rfl
  unfold x2_next
  exact gj_to [0] (J0 a0) rfl
