/-! THE MODEL: its methods as pure programs, and that the machine runs so (home, undo, does, mayDo, judged, lots, odds, weekBy, least, prepare, law, goodOf, deedsFrom, deeds): printed by gen.py -/
def m5_home : MM Int :=
  pbnd (mput 0 0) fun _ =>
  pbnd (mrd 14 1656 0) fun v10 =>
  pite (w32 v10 = 0) (
    pret (-1)) (
    pbnd (m5_keeps) fun _ =>
    pbnd (m5_goesHome 0) fun v22 =>
    pret v22)
set_option maxHeartbeats 4000000 in
set_option maxRecDepth 100000 in
theorem met5_home (l : Launch) (g : MG) : MMet l g yX5_home cX5_home 1 (Option.some Jvm.ClassFile.FieldType.int) (3) [.ref (g.2.2)] (m5_home) rvI := by
  refine mj_start (by decide +kernel) rfl (Nat.le_of_ble_eq_true rfl) (fun X Q hl C K hQ hR hr => ?_)
  subst hl
  show GJ X 1 (mWo g (cx_s X).heap) Q (m5_home) 0 [(0, .ref (g.2.2))] []
  unfold m5_home
  refine gj_aload_n C dX5_home_0 0 rfl ?_
  refine gj_iconst C dX5_home_1 ?_
  refine mj_putI (kf := 0) C K dX5_home_2 (by decide) (by decide) rfl q1871 rfl rfl (by decide +kernel) ?_
  refine gj_aload_n C dX5_home_5 0 rfl ?_
  refine mj_getR (kf := 23) (j := 14) C K dX5_home_6 (by decide) (by decide) rfl (by decide) q1894 rfl ?_
  refine gj_iconst C dX5_home_9 ?_
  refine mj_iald (j := 14) C K dX5_home_10 (by decide) rfl (fun v10 => ?_)
  refine gj_if_ne (tgt := 16) C dX5_home_11 (by decide) (fun h11 => gj_neg h11 ?_) (fun h11 => gj_pos h11 ?_)
  · refine gj_aload_n C dX5_home_16 0 rfl ?_
    refine mj_callVV (As := []) (rest := []) C K dX5_home_17 (met5_keeps (cx_l X) g) (lw_V q2165 q2167 qs90 q134 q2168) hy5_keeps hR (Nat.le_of_ble_eq_true rfl) (by decide) rfl rfl (Nat.zero_le _) ?_
    refine gj_aload_n C dX5_home_20 0 rfl ?_
    refine gj_iconst C dX5_home_21 ?_
    refine mj_callVI (As := [.int (iI 0)]) (rest := []) C K dX5_home_22 (met5_goesHome (cx_l X) g 0) (lw_V q2260 q2262 qs108 q134 q2263) hy5_goesHome hR (Nat.le_of_ble_eq_true rfl) (by decide) rfl rfl (Nat.zero_le _) (fun v22 => ?_)
    exact mj_iret C hQ hr dX5_home_25
  · refine gj_iconst C dX5_home_14 ?_
    exact mj_iret C hQ hr dX5_home_15
def m5_undo : MM Int :=
  pbnd (mput 0 0) fun _ =>
  pbnd (mget 24) fun v6 =>
  pite (w32 v6 = 0) (
    pbnd (pzo 0) fun _ => pret 0) (
    pbnd (mget 24) fun v16 =>
    pbnd (mput 24 (w32 (v16 - 1))) fun _ =>
    pbnd (mget 24) fun v29 =>
    pbnd (m5_copies (72 * ((5 + v29))) 0 46) fun _ =>
    pbnd (pzo 1) fun _ => pret 1)
set_option maxHeartbeats 4000000 in
set_option maxRecDepth 100000 in
theorem met5_undo (l : Launch) (g : MG) : MMet l g yX5_undo cX5_undo 1 (Option.some Jvm.ClassFile.FieldType.boolean) (1) [.ref (g.2.2)] (m5_undo) rvI := by
  refine mj_start (by decide +kernel) rfl (Nat.le_of_ble_eq_true rfl) (fun X Q hl C K hQ hR hr => ?_)
  subst hl
  show GJ X 1 (mWo g (cx_s X).heap) Q (m5_undo) 0 [(0, .ref (g.2.2))] []
  unfold m5_undo
  refine gj_aload_n C dX5_undo_0 0 rfl ?_
  refine gj_iconst C dX5_undo_1 ?_
  refine mj_putI (kf := 0) C K dX5_undo_2 (by decide) (by decide) rfl q1871 rfl rfl (by decide +kernel) ?_
  refine gj_aload_n C dX5_undo_5 0 rfl ?_
  refine mj_getI (kf := 24) C K dX5_undo_6 (by decide) (by decide) rfl q1895 rfl (fun v6 => ?_)
  refine gj_if_ne (tgt := 14) C dX5_undo_9 (by decide) (fun h9 => gj_neg h9 ?_) (fun h9 => gj_pos h9 ?_)
  · refine gj_aload_n C dX5_undo_14 0 rfl ?_
    refine gj_dup C dX5_undo_15 rfl ?_
    refine mj_getI (kf := 24) C K dX5_undo_16 (by decide) (by decide) rfl q1895 rfl (fun v16 => ?_)
    refine gj_iconst C dX5_undo_19 ?_
    refine gj_isub C dX5_undo_20 ?_
    refine gj_nrmI ?_
    refine mj_putI (kf := 24) C K dX5_undo_21 (by decide) (by decide) rfl q1895 rfl rfl (by decide +kernel) ?_
    refine gj_aload_n C dX5_undo_24 0 rfl ?_
    refine gj_bipush C dX5_undo_25 rfl ?_
    refine gj_iconst C dX5_undo_27 ?_
    refine gj_aload_n C dX5_undo_28 0 rfl ?_
    refine mj_getI (kf := 24) C K dX5_undo_29 (by decide) (by decide) rfl q1895 rfl (fun v29 => ?_)
    refine gj_iadd C dX5_undo_32 ?_
    refine gj_imul C dX5_undo_33 ?_
    refine gj_iconst C dX5_undo_34 ?_
    refine gj_bipush C dX5_undo_35 rfl ?_
    refine mj_callVV (As := [.int (iI ((72 * ((5 + v29))))), .int (iI 0), .int (iI 46)]) (rest := []) C K dX5_undo_37 (met5_copies (cx_l X) g (72 * ((5 + v29))) 0 46) (lw_V q2169 q2171 qs91 q134 q2172) hy5_copies hR (Nat.le_of_ble_eq_true rfl) (by decide) rfl rfl (Nat.zero_le _) ?_
    refine gj_iconst C dX5_undo_40 ?_
    exact mj_zret C hQ hr dX5_undo_41
  · refine gj_iconst C dX5_undo_12 ?_
    exact mj_zret C hQ hr dX5_undo_13
def m5_does (a1 a2 a3 : Int) : MM Unit :=
  pite (w32 a1 = 0) (
    pbnd (mwr 14 1656 (1534 + a2) (w32 a3)) fun _ =>
    pret ()) (
    pite (w32 a1 = 1) (
      pbnd (mput 30 (w64 (zi2l a2))) fun _ =>
      pbnd (mget 29) fun v35 =>
      pbnd (m5_draw v35) fun v38 =>
      pbnd (m5_leaves 1512 v38) fun _ =>
      pret ()) (
      pite (w32 a1 = 2) (
        pbnd (m5_swaps 1512 a2 a3) fun _ =>
        pret ()) (
        pite (w32 a1 = 3) (
          pbnd (m5_passes 1512) fun _ =>
          pret ()) (
          pbnd (m5_goesHome 1512) fun v83 =>
          pret ()))))
set_option maxHeartbeats 4000000 in
set_option maxRecDepth 100000 in
theorem met5_does (l : Launch) (g : MG) (a1 a2 a3 : Int) : MMet l g yX5_does cX5_does 4 (Option.none : Option Jvm.ClassFile.FieldType) (4) [.ref (g.2.2), .int (iI a1), .int (iI a2), .int (iI a3)] (m5_does a1 a2 a3) rvV := by
  refine mj_start (by decide +kernel) rfl (Nat.le_of_ble_eq_true rfl) (fun X Q hl C K hQ hR hr => ?_)
  subst hl
  show GJ X 4 (mWo g (cx_s X).heap) Q (m5_does a1 a2 a3) 0 [(0, .ref (g.2.2)), (1, .int (iI a1)), (2, .int (iI a2)), (3, .int (iI a3))] []
  unfold m5_does
  refine gj_iload_n C dX5_does_0 1 rfl ?_
  refine gj_if_ne (tgt := 18) C dX5_does_1 (by decide) (fun h1 => gj_neg h1 ?_) (fun h1 => gj_pos h1 ?_)
  · refine gj_iload_n C dX5_does_18 1 rfl ?_
    refine gj_iconst C dX5_does_19 ?_
    refine gj_icmp_ne (tgt := 47) (b' := 1) C dX5_does_20 (by decide) rfl (by decide) (fun h20 => gj_neg h20 ?_) (fun h20 => gj_pos h20 ?_)
    · refine gj_iload_n C dX5_does_47 1 rfl ?_
      refine gj_iconst C dX5_does_48 ?_
      refine gj_icmp_ne (tgt := 64) (b' := 2) C dX5_does_49 (by decide) rfl (by decide) (fun h49 => gj_neg h49 ?_) (fun h49 => gj_pos h49 ?_)
      · refine gj_iload_n C dX5_does_64 1 rfl ?_
        refine gj_iconst C dX5_does_65 ?_
        refine gj_icmp_ne (tgt := 79) (b' := 3) C dX5_does_66 (by decide) rfl (by decide) (fun h66 => gj_neg h66 ?_) (fun h66 => gj_pos h66 ?_)
        · refine gj_aload_n C dX5_does_79 0 rfl ?_
          refine gj_sipush C dX5_does_80 rfl ?_
          refine mj_callVI (As := [.int (iI 1512)]) (rest := []) C K dX5_does_83 (met5_goesHome (cx_l X) g 1512) (lw_V q2260 q2262 qs108 q134 q2263) hy5_goesHome hR (Nat.le_of_ble_eq_true rfl) (by decide) rfl rfl (Nat.zero_le _) (fun v83 => ?_)
          refine gj_pop C dX5_does_86 rfl ?_
          exact mj_vret C hQ hr dX5_does_87
        · refine gj_aload_n C dX5_does_69 0 rfl ?_
          refine gj_sipush C dX5_does_70 rfl ?_
          refine mj_callVV (As := [.int (iI 1512)]) (rest := []) C K dX5_does_73 (met5_passes (cx_l X) g 1512) (lw_V q2221 q2223 qs100 q134 q2224) hy5_passes hR (Nat.le_of_ble_eq_true rfl) (by decide) rfl rfl (Nat.zero_le _) ?_
          refine gj_goto (tgt := 87) C dX5_does_76 (by decide) ?_
          exact mj_vret C hQ hr dX5_does_87
      · refine gj_aload_n C dX5_does_52 0 rfl ?_
        refine gj_sipush C dX5_does_53 rfl ?_
        refine gj_iload_n C dX5_does_56 2 rfl ?_
        refine gj_iload_n C dX5_does_57 3 rfl ?_
        refine mj_callVV (As := [.int (iI 1512), .int (iI a2), .int (iI a3)]) (rest := []) C K dX5_does_58 (met5_swaps (cx_l X) g 1512 a2 a3) (lw_V q2209 q2211 qs98 q134 q2212) hy5_swaps hR (Nat.le_of_ble_eq_true rfl) (by decide) rfl rfl (Nat.zero_le _) ?_
        refine gj_goto (tgt := 87) C dX5_does_61 (by decide) ?_
        exact mj_vret C hQ hr dX5_does_87
    · refine gj_aload_n C dX5_does_23 0 rfl ?_
      refine gj_iload_n C dX5_does_24 2 rfl ?_
      refine gj_i2l C dX5_does_25 ?_
      refine gj_nrmL ?_
      refine mj_putL C K dX5_does_26 q1901 ?_
      refine gj_aload_n C dX5_does_29 0 rfl ?_
      refine gj_sipush C dX5_does_30 rfl ?_
      refine gj_aload_n C dX5_does_33 0 rfl ?_
      refine gj_aload_n C dX5_does_34 0 rfl ?_
      refine mj_getI (kf := 29) C K dX5_does_35 (by decide) (by decide) rfl q1900 rfl (fun v35 => ?_)
      refine mj_callVI (As := [.int (iI v35)]) (rest := [.int (iI 1512), .ref (g.2.2)]) C K dX5_does_38 (met5_draw (cx_l X) g v35) (lw_V q2181 q2183 qs93 q134 q2184) hy5_draw hR (Nat.le_of_ble_eq_true rfl) (by decide) rfl rfl (Nat.le_of_ble_eq_true rfl) (fun v38 => ?_)
      refine mj_callVV (As := [.int (iI 1512), .int (iI v38)]) (rest := []) C K dX5_does_41 (met5_leaves (cx_l X) g 1512 v38) (lw_V q2189 q2191 qs94 q134 q2192) hy5_leaves hR (Nat.le_of_ble_eq_true rfl) (by decide) rfl rfl (Nat.zero_le _) ?_
      refine gj_goto (tgt := 87) C dX5_does_44 (by decide) ?_
      exact mj_vret C hQ hr dX5_does_87
  · refine gj_aload_n C dX5_does_4 0 rfl ?_
    refine mj_getR (kf := 23) (j := 14) C K dX5_does_5 (by decide) (by decide) rfl (by decide) q1894 rfl ?_
    refine gj_sipush C dX5_does_8 rfl ?_
    refine gj_iload_n C dX5_does_11 2 rfl ?_
    refine gj_iadd C dX5_does_12 ?_
    refine gj_iload_n C dX5_does_13 3 rfl ?_
    refine gj_nrmI ?_
    refine mj_iast (j := 14) C K dX5_does_14 (by decide) (by decide) rfl ?_
    refine gj_goto (tgt := 87) C dX5_does_15 (by decide) ?_
    exact mj_vret C hQ hr dX5_does_87
def m5_mayDo (a1 a2 a3 : Int) : MM Int :=
  pite (w32 a1 = 0) (
    pbnd (m5_mayHide 1512 a2 a3) fun v38 =>
    pbnd (pzo v38) fun _ => pret v38) (
    pite (w32 a1 = 1) (
      pbnd (m5_mayLeave 1512) fun v46 =>
      pbnd (pzo v46) fun _ => pret v46) (
      pite (w32 a1 = 2) (
        pbnd (m5_maySwap 1512 a2 a3) fun v56 =>
        pbnd (pzo v56) fun _ => pret v56) (
        pite (w32 a1 = 3) (
          pbnd (m5_mayPass 1512) fun v64 =>
          pbnd (pzo v64) fun _ => pret v64) (
          pbnd (mrd 14 1656 1512) fun v75 =>
          plet (if w32 v75 = 1 then 1 else 0) fun d85 =>
          pbnd (pzo d85) fun _ => pret d85))))
set_option maxHeartbeats 4000000 in
set_option maxRecDepth 100000 in
theorem met5_mayDo (l : Launch) (g : MG) (a1 a2 a3 : Int) : MMet l g yX5_mayDo cX5_mayDo 4 (Option.some Jvm.ClassFile.FieldType.boolean) (2) [.ref (g.2.2), .int (iI a1), .int (iI a2), .int (iI a3)] (m5_mayDo a1 a2 a3) rvI := by
  refine mj_start (by decide +kernel) rfl (Nat.le_of_ble_eq_true rfl) (fun X Q hl C K hQ hR hr => ?_)
  subst hl
  show GJ X 4 (mWo g (cx_s X).heap) Q (m5_mayDo a1 a2 a3) 0 [(0, .ref (g.2.2)), (1, .int (iI a1)), (2, .int (iI a2)), (3, .int (iI a3))] []
  unfold m5_mayDo
  refine gj_iload_n C dX5_mayDo_0 1 rfl ?_
  by_cases h1_0 : w32 a1 = 0
  · refine gj_pos h1_0 ?_
    refine gj_tin (tgt := 32) C 0 h1_0 dX5_mayDo_1 (by decide) (by decide) rfl (by decide) ?_
    refine gj_aload_n C dX5_mayDo_32 0 rfl ?_
    refine gj_sipush C dX5_mayDo_33 rfl ?_
    refine gj_iload_n C dX5_mayDo_36 2 rfl ?_
    refine gj_iload_n C dX5_mayDo_37 3 rfl ?_
    refine mj_callVI (As := [.int (iI 1512), .int (iI a2), .int (iI a3)]) (rest := []) C K dX5_mayDo_38 (met5_mayHide (cx_l X) g 1512 a2 a3) (lw_V q2161 q2163 qs89 q134 q2164) hy5_mayHide hR (Nat.le_of_ble_eq_true rfl) (by decide) rfl rfl (Nat.zero_le _) (fun v38 => ?_)
    exact mj_zret C hQ hr dX5_mayDo_41
  · refine gj_neg h1_0 ?_
    by_cases h1_1 : w32 a1 = 1
    · refine gj_pos h1_1 ?_
      refine gj_tin (tgt := 42) C 1 h1_1 dX5_mayDo_1 (by decide) (by decide) rfl (by decide) ?_
      refine gj_aload_n C dX5_mayDo_42 0 rfl ?_
      refine gj_sipush C dX5_mayDo_43 rfl ?_
      refine mj_callVI (As := [.int (iI 1512)]) (rest := []) C K dX5_mayDo_46 (met5_mayLeave (cx_l X) g 1512) (lw_V q2177 q2179 qs92 q134 q2180) hy5_mayLeave hR (Nat.le_of_ble_eq_true rfl) (by decide) rfl rfl (Nat.zero_le _) (fun v46 => ?_)
      exact mj_zret C hQ hr dX5_mayDo_49
    · refine gj_neg h1_1 ?_
      by_cases h1_2 : w32 a1 = 2
      · refine gj_pos h1_2 ?_
        refine gj_tin (tgt := 50) C 2 h1_2 dX5_mayDo_1 (by decide) (by decide) rfl (by decide) ?_
        refine gj_aload_n C dX5_mayDo_50 0 rfl ?_
        refine gj_sipush C dX5_mayDo_51 rfl ?_
        refine gj_iload_n C dX5_mayDo_54 2 rfl ?_
        refine gj_iload_n C dX5_mayDo_55 3 rfl ?_
        refine mj_callVI (As := [.int (iI 1512), .int (iI a2), .int (iI a3)]) (rest := []) C K dX5_mayDo_56 (met5_maySwap (cx_l X) g 1512 a2 a3) (lw_V q2201 q2203 qs96 q134 q2204) hy5_maySwap hR (Nat.le_of_ble_eq_true rfl) (by decide) rfl rfl (Nat.zero_le _) (fun v56 => ?_)
        exact mj_zret C hQ hr dX5_mayDo_59
      · refine gj_neg h1_2 ?_
        by_cases h1_3 : w32 a1 = 3
        · refine gj_pos h1_3 ?_
          refine gj_tin (tgt := 60) C 3 h1_3 dX5_mayDo_1 (by decide) (by decide) rfl (by decide) ?_
          refine gj_aload_n C dX5_mayDo_60 0 rfl ?_
          refine gj_sipush C dX5_mayDo_61 rfl ?_
          refine mj_callVI (As := [.int (iI 1512)]) (rest := []) C K dX5_mayDo_64 (met5_mayPass (cx_l X) g 1512) (lw_V q2217 q2219 qs99 q134 q2220) hy5_mayPass hR (Nat.le_of_ble_eq_true rfl) (by decide) rfl rfl (Nat.zero_le _) (fun v64 => ?_)
          exact mj_zret C hQ hr dX5_mayDo_67
        · refine gj_neg h1_3 ?_
          refine gj_tout (tgt := 68) C dX5_mayDo_1 (by omega) (by decide) ?_
          refine gj_aload_n C dX5_mayDo_68 0 rfl ?_
          refine mj_getR (kf := 23) (j := 14) C K dX5_mayDo_69 (by decide) (by decide) rfl (by decide) q1894 rfl ?_
          refine gj_sipush C dX5_mayDo_72 rfl ?_
          refine mj_iald (j := 14) C K dX5_mayDo_75 (by decide) rfl (fun v75 => ?_)
          refine gj_iconst C dX5_mayDo_76 ?_
          refine gj_dia (J := 85) (L := [(0, .ref (g.2.2)), (1, .int (iI a1)), (2, .int (iI a2)), (3, .int (iI a3))]) (st := []) (fun d85 => ?_) (fun t hJ => ?_)
          · skip
            exact mj_zret C hQ hr dX5_mayDo_85
          · refine gj_icmp_ne (tgt := 84) (b' := 1) C dX5_mayDo_77 (by decide) rfl (by decide) (fun h77 => ?_) (fun h77 => ?_)
            · refine gj_iconst C dX5_mayDo_84 ?_
              exact (by rw [if_neg h77] at hJ; exact hJ)
            · refine gj_iconst C dX5_mayDo_80 ?_
              refine gj_goto (tgt := 85) C dX5_mayDo_81 (by decide) ?_
              exact (by rw [if_pos h77] at hJ; exact hJ)
def m5_judged_j109 (a1 a2 a3 a5 : Int) (bk28 : (Int × Int) → MM Int) : MM Int :=
  plet (if w32 a5 = 0 then if w32 a2 < 0 then a3 else a2 else a2) fun d123 =>
  bk28 (d123, a3 + 1)
def m5_judged_b28 (a1 : Int) (a2 a3 : Int) (bk28 : (Int × Int) → MM Int) : MM Int :=
  pbnd (mrd 11 250 0) fun v34 =>
  pite (w32 a3 < w32 v34) (
    pbnd (mrd 11 250 (1 + ((3 * a3)))) fun v47 =>
    pbnd (mrd 11 250 (2 + ((3 * a3)))) fun v62 =>
    pbnd (mrd 11 250 (3 + ((3 * a3)))) fun v72 =>
    pbnd (m5_mayDo v47 v62 v72) fun v73 =>
    pite (w32 v73 = 0) (
      m5_judged_j109 a1 a2 a3 v73 bk28) (
      pbnd (mrd 11 250 (2 + ((3 * a3)))) fun v95 =>
      pbnd (mrd 11 250 (3 + ((3 * a3)))) fun v105 =>
      pbnd (m5_does v47 v95 v105) fun _ =>
      m5_judged_j109 a1 a2 a3 v73 bk28)) (
    pite (w32 a1 = 0) (
      pret (w32 a2)) (
      pite (w32 a1 = 1) (
        pbnd (mrd 14 1656 1514) fun v150 =>
        pret v150) (
        pbnd (mrd 14 1656 1515) fun v161 =>
        pret v161)))
def m5_judged_l28 (a1 a2 a3 : Int) : MM Int :=
  ploop (fun (s : (Int × Int)) bk28 => m5_judged_b28 a1 s.1 s.2 bk28) (a2, a3)
def m5_judged (a1 : Int) : MM Int :=
  pbnd (mput 0 0) fun _ =>
  pbnd (m5_within a1 0 2) fun v8 =>
  pite (w32 v8 = 0) (
    pret (-2)) (
    pbnd (m5_starts 1512) fun _ =>
    m5_judged_l28 a1 (-1) 0)
set_option maxHeartbeats 4000000 in
set_option maxRecDepth 100000 in
theorem met5_judged (l : Launch) (g : MG) (a1 : Int) : MMet l g yX5_judged cX5_judged 6 (Option.some Jvm.ClassFile.FieldType.int) (5) [.ref (g.2.2), .int (iI a1)] (m5_judged a1) rvI := by
  refine mj_start (by decide +kernel) rfl (Nat.le_of_ble_eq_true rfl) (fun X Q hl C K hQ hR hr => ?_)
  subst hl
  show GJ X 6 (mWo g (cx_s X).heap) Q (m5_judged a1) 0 [(0, .ref (g.2.2)), (1, .int (iI a1))] []
  have J28 : ∀ (a1 a2 a3 : Int), GJ X 6 (mWo g (cx_s X).heap) Q (m5_judged_l28 a1 a2 a3) 28 [(0, .ref (g.2.2)), (1, .int (iI a1)), (2, .int (iI a2)), (3, .int (iI a3))] [] := by
    intro a1 a2 a3
    unfold m5_judged_l28
    refine gj_loop (fun (s : (Int × Int)) => [(0, .ref (g.2.2)), (1, .int (iI a1)), (2, .int (iI (s.1))), (3, .int (iI (s.2)))]) (a2, a3) (fun bk28 hb28 s => ?_)
    obtain ⟨a2, a3⟩ := s
    show GJ X 6 (mWo g (cx_s X).heap) Q (m5_judged_b28 a1 a2 a3 bk28) 28 [(0, .ref (g.2.2)), (1, .int (iI a1)), (2, .int (iI a2)), (3, .int (iI a3))] []
    have J109 : ∀ (a2 a3 a5 : Int), GJ X 6 (mWo g (cx_s X).heap) Q (m5_judged_j109 a1 a2 a3 a5 bk28) 109 [(0, .ref (g.2.2)), (1, .int (iI a1)), (2, .int (iI a2)), (3, .int (iI a3)), (5, .int (iI a5))] [] := by
      intro a2 a3 a5
      unfold m5_judged_j109
      refine gj_iload C dX5_judged_109 4 rfl ?_
      refine gj_dia (J := 123) (L := [(0, .ref (g.2.2)), (1, .int (iI a1)), (2, .int (iI a2)), (3, .int (iI a3)), (5, .int (iI a5))]) (st := []) (fun d123 => ?_) (fun t hJ => ?_)
      · skip
        refine gj_istore_n (L' := [(2, _), (0, _), (1, _), (3, _), (5, _)]) C dX5_judged_123 (by decide) rfl ?_
        refine gj_iinc (L' := [(3, _), (2, _), (0, _), (1, _), (5, _)]) C dX5_judged_124 3 rfl (by decide) rfl ?_
        refine gj_goto (tgt := 28) C dX5_judged_127 (by decide) ?_
        exact gj_to [2, 3, 1, 0] (hb28 (d123, a3 + 1)) rfl
      · refine gj_if_ne (tgt := 122) C dX5_judged_111 (by decide) (fun h111 => ?_) (fun h111 => ?_)
        · refine gj_iload_n C dX5_judged_122 2 rfl ?_
          exact (by rw [if_neg h111] at hJ; exact hJ)
        · refine gj_iload_n C dX5_judged_114 2 rfl ?_
          refine gj_if_ge (tgt := 122) C dX5_judged_115 (by decide) (fun h115 => ?_) (fun h115 => ?_)
          · refine gj_iload_n C dX5_judged_122 2 rfl ?_
            exact (by rw [if_pos h111, if_neg h115] at hJ; exact hJ)
          · refine gj_iload_n C dX5_judged_118 3 rfl ?_
            refine gj_goto (tgt := 123) C dX5_judged_119 (by decide) ?_
            exact (by rw [if_pos h111, if_pos h115] at hJ; exact hJ)
    unfold m5_judged_b28
    refine gj_iload_n C dX5_judged_28 3 rfl ?_
    refine gj_aload_n C dX5_judged_29 0 rfl ?_
    refine mj_getR (kf := 20) (j := 11) C K dX5_judged_30 (by decide) (by decide) rfl (by decide) q1891 rfl ?_
    refine gj_iconst C dX5_judged_33 ?_
    refine mj_iald (j := 11) C K dX5_judged_34 (by decide) rfl (fun v34 => ?_)
    refine gj_icmp_ge (tgt := 130) C dX5_judged_35 (by decide) rfl rfl (fun h35 => gj_neg h35 ?_) (fun h35 => gj_pos h35 ?_)
    · refine gj_iload_n C dX5_judged_130 1 rfl ?_
      refine gj_if_ne (tgt := 138) C dX5_judged_131 (by decide) (fun h131 => gj_neg h131 ?_) (fun h131 => gj_pos h131 ?_)
      · refine gj_iload_n C dX5_judged_138 1 rfl ?_
        refine gj_iconst C dX5_judged_139 ?_
        refine gj_icmp_ne (tgt := 154) (b' := 1) C dX5_judged_140 (by decide) rfl (by decide) (fun h140 => gj_neg h140 ?_) (fun h140 => gj_pos h140 ?_)
        · refine gj_aload_n C dX5_judged_154 0 rfl ?_
          refine mj_getR (kf := 23) (j := 14) C K dX5_judged_155 (by decide) (by decide) rfl (by decide) q1894 rfl ?_
          refine gj_sipush C dX5_judged_158 rfl ?_
          refine mj_iald (j := 14) C K dX5_judged_161 (by decide) rfl (fun v161 => ?_)
          exact mj_iret C hQ hr dX5_judged_162
        · refine gj_aload_n C dX5_judged_143 0 rfl ?_
          refine mj_getR (kf := 23) (j := 14) C K dX5_judged_144 (by decide) (by decide) rfl (by decide) q1894 rfl ?_
          refine gj_sipush C dX5_judged_147 rfl ?_
          refine mj_iald (j := 14) C K dX5_judged_150 (by decide) rfl (fun v150 => ?_)
          refine gj_goto (tgt := 162) C dX5_judged_151 (by decide) ?_
          exact mj_iret C hQ hr dX5_judged_162
      · refine gj_iload_n C dX5_judged_134 2 rfl ?_
        refine gj_goto (tgt := 162) C dX5_judged_135 (by decide) ?_
        refine gj_nrmI ?_
        exact mj_iret C hQ hr dX5_judged_162
    · refine gj_aload_n C dX5_judged_38 0 rfl ?_
      refine mj_getR (kf := 20) (j := 11) C K dX5_judged_39 (by decide) (by decide) rfl (by decide) q1891 rfl ?_
      refine gj_iconst C dX5_judged_42 ?_
      refine gj_iconst C dX5_judged_43 ?_
      refine gj_iload_n C dX5_judged_44 3 rfl ?_
      refine gj_imul C dX5_judged_45 ?_
      refine gj_iadd C dX5_judged_46 ?_
      refine mj_iald (j := 11) C K dX5_judged_47 (by decide) rfl (fun v47 => ?_)
      refine gj_istore (L' := [(4, _), (0, _), (1, _), (2, _), (3, _)]) C dX5_judged_48 (by decide) rfl ?_
      refine gj_aload_n C dX5_judged_50 1 rfl ?_
      refine gj_iload C dX5_judged_51 0 rfl ?_
      refine gj_aload_n C dX5_judged_53 1 rfl ?_
      refine mj_getR (kf := 20) (j := 11) C K dX5_judged_54 (by decide) (by decide) rfl (by decide) q1891 rfl ?_
      refine gj_iconst C dX5_judged_57 ?_
      refine gj_iconst C dX5_judged_58 ?_
      refine gj_iload_n C dX5_judged_59 4 rfl ?_
      refine gj_imul C dX5_judged_60 ?_
      refine gj_iadd C dX5_judged_61 ?_
      refine mj_iald (j := 11) C K dX5_judged_62 (by decide) rfl (fun v62 => ?_)
      refine gj_aload_n C dX5_judged_63 1 rfl ?_
      refine mj_getR (kf := 20) (j := 11) C K dX5_judged_64 (by decide) (by decide) rfl (by decide) q1891 rfl ?_
      refine gj_iconst C dX5_judged_67 ?_
      refine gj_iconst C dX5_judged_68 ?_
      refine gj_iload_n C dX5_judged_69 4 rfl ?_
      refine gj_imul C dX5_judged_70 ?_
      refine gj_iadd C dX5_judged_71 ?_
      refine mj_iald (j := 11) C K dX5_judged_72 (by decide) rfl (fun v72 => ?_)
      refine mj_callVI (As := [.int (iI v47), .int (iI v62), .int (iI v72)]) (rest := []) C K dX5_judged_73 (met5_mayDo (cx_l X) g v47 v62 v72) (lw_V q2276 q2278 qs110 q134 q2279) hy5_mayDo hR (Nat.le_of_ble_eq_true rfl) (by decide) rfl rfl (Nat.zero_le _) (fun v73 => ?_)
      refine gj_istore (L' := [(5, _), (4, _), (0, _), (1, _), (2, _), (3, _)]) C dX5_judged_76 (by decide) rfl ?_
      refine gj_iload C dX5_judged_78 0 rfl ?_
      refine gj_if_eq (tgt := 109) C dX5_judged_80 (by decide) (fun h80 => gj_pos h80 ?_) (fun h80 => gj_neg h80 ?_)
      · exact gj_to [2, 3, 4, 5, 0] (J109 a2 a3 v73) rfl
      · refine gj_aload_n C dX5_judged_83 2 rfl ?_
        refine gj_iload C dX5_judged_84 1 rfl ?_
        refine gj_aload_n C dX5_judged_86 2 rfl ?_
        refine mj_getR (kf := 20) (j := 11) C K dX5_judged_87 (by decide) (by decide) rfl (by decide) q1891 rfl ?_
        refine gj_iconst C dX5_judged_90 ?_
        refine gj_iconst C dX5_judged_91 ?_
        refine gj_iload_n C dX5_judged_92 5 rfl ?_
        refine gj_imul C dX5_judged_93 ?_
        refine gj_iadd C dX5_judged_94 ?_
        refine mj_iald (j := 11) C K dX5_judged_95 (by decide) rfl (fun v95 => ?_)
        refine gj_aload_n C dX5_judged_96 2 rfl ?_
        refine mj_getR (kf := 20) (j := 11) C K dX5_judged_97 (by decide) (by decide) rfl (by decide) q1891 rfl ?_
        refine gj_iconst C dX5_judged_100 ?_
        refine gj_iconst C dX5_judged_101 ?_
        refine gj_iload_n C dX5_judged_102 5 rfl ?_
        refine gj_imul C dX5_judged_103 ?_
        refine gj_iadd C dX5_judged_104 ?_
        refine mj_iald (j := 11) C K dX5_judged_105 (by decide) rfl (fun v105 => ?_)
        refine mj_callVV (As := [.int (iI v47), .int (iI v95), .int (iI v105)]) (rest := []) C K dX5_judged_106 (met5_does (cx_l X) g v47 v95 v105) (lw_V q2280 q2282 qs111 q134 q2283) hy5_does hR (Nat.le_of_ble_eq_true rfl) (by decide) rfl rfl (Nat.zero_le _) ?_
        exact gj_to [2, 3, 4, 5, 0] (J109 a2 a3 v73) rfl
  unfold m5_judged
  refine gj_aload_n C dX5_judged_0 0 rfl ?_
  refine gj_iconst C dX5_judged_1 ?_
  refine mj_putI (kf := 0) C K dX5_judged_2 (by decide) (by decide) rfl q1871 rfl rfl (by decide +kernel) ?_
  refine gj_iload_n C dX5_judged_5 1 rfl ?_
  refine gj_iconst C dX5_judged_6 ?_
  refine gj_iconst C dX5_judged_7 ?_
  refine mj_callSI (As := [.int (iI a1), .int (iI 0), .int (iI 2)]) (rest := []) C K dX5_judged_8 (met5_within (cx_l X) g a1 0 2) (lw_S q2142 q2143 q134 q2144) hy5s_within hR (Nat.le_of_ble_eq_true rfl) (by decide) rfl rfl (Nat.zero_le _) (fun v8 => ?_)
  refine gj_if_ne (tgt := 17) C dX5_judged_11 (by decide) (fun h11 => gj_neg h11 ?_) (fun h11 => gj_pos h11 ?_)
  · refine gj_aload_n C dX5_judged_17 0 rfl ?_
    refine gj_sipush C dX5_judged_18 rfl ?_
    refine mj_callVV (As := [.int (iI 1512)]) (rest := []) C K dX5_judged_21 (met5_starts (cx_l X) g 1512) (lw_V q1847 q1849 qs54 q134 q1850) hy5_starts hR (Nat.le_of_ble_eq_true rfl) (by decide) rfl rfl (Nat.zero_le _) ?_
    refine gj_iconst C dX5_judged_24 ?_
    refine gj_istore_n (L' := [(2, _), (0, _), (1, _)]) C dX5_judged_25 (by decide) rfl ?_
    refine gj_iconst C dX5_judged_26 ?_
    refine gj_istore_n (L' := [(3, _), (2, _), (0, _), (1, _)]) C dX5_judged_27 (by decide) rfl ?_
    exact gj_to [2, 3, 1, 0] (J28 a1 (-1) 0) rfl
  · refine gj_bipush C dX5_judged_14 rfl ?_
    exact mj_iret C hQ hr dX5_judged_16
def m5_lots : MM Int :=
  pbnd (mput 0 0) fun _ =>
  pbnd (mget 29) fun v6 =>
  pret v6
set_option maxHeartbeats 4000000 in
set_option maxRecDepth 100000 in
theorem met5_lots (l : Launch) (g : MG) : MMet l g yX5_lots cX5_lots 1 (Option.some Jvm.ClassFile.FieldType.int) (0) [.ref (g.2.2)] (m5_lots) rvI := by
  refine mj_start (by decide +kernel) rfl (Nat.le_of_ble_eq_true rfl) (fun X Q hl C K hQ hR hr => ?_)
  subst hl
  show GJ X 1 (mWo g (cx_s X).heap) Q (m5_lots) 0 [(0, .ref (g.2.2))] []
  unfold m5_lots
  refine gj_aload_n C dX5_lots_0 0 rfl ?_
  refine gj_iconst C dX5_lots_1 ?_
  refine mj_putI (kf := 0) C K dX5_lots_2 (by decide) (by decide) rfl q1871 rfl rfl (by decide +kernel) ?_
  refine gj_aload_n C dX5_lots_5 0 rfl ?_
  refine mj_getI (kf := 29) C K dX5_lots_6 (by decide) (by decide) rfl q1900 rfl (fun v6 => ?_)
  exact mj_iret C hQ hr dX5_lots_9
def m5_odds_b35 (a1 a2 : Int) (a3 a4 : Int) (bk35 : (Int × Int) → MM Int) : MM Int :=
  pbnd (mget 29) fun v38 =>
  pite (w32 a4 < w32 v38) (
    pbnd (m5_selfOf a4 a2) fun v49 =>
    plet (if w32 v49 = w32 a1 then 1 else 0) fun d61 =>
    plet (a3 + d61) fun x62 =>
    bk35 (x62, a4 + 1)) (
    pbnd (mget 29) fun v75 =>
    pbnd (pnz v75) fun _ =>
    pret (zdiv ((a3 * 1000000)) v75))
def m5_odds_l35 (a1 a2 a3 a4 : Int) : MM Int :=
  ploop (fun (s : (Int × Int)) bk35 => m5_odds_b35 a1 a2 s.1 s.2 bk35) (a3, a4)
def m5_odds (a1 a2 : Int) : MM Int :=
  pbnd (mput 0 0) fun _ =>
  pbnd (m5_isPerson a1) fun v7 =>
  pite (w32 v7 = 0) (
    pret (-1)) (
    pbnd (m5_isPerson a2) fun v15 =>
    pite (w32 v15 = 0) (
      pret (-1)) (
      pbnd (mget 29) fun v22 =>
      pite (w32 v22 = 0) (
        pret (-1)) (
        m5_odds_l35 a1 a2 0 0)))
set_option maxHeartbeats 4000000 in
set_option maxRecDepth 100000 in
theorem met5_odds (l : Launch) (g : MG) (a1 a2 : Int) : MMet l g yX5_odds cX5_odds 5 (Option.some Jvm.ClassFile.FieldType.int) (2) [.ref (g.2.2), .int (iI a1), .int (iI a2)] (m5_odds a1 a2) rvI := by
  refine mj_start (by decide +kernel) rfl (Nat.le_of_ble_eq_true rfl) (fun X Q hl C K hQ hR hr => ?_)
  subst hl
  show GJ X 5 (mWo g (cx_s X).heap) Q (m5_odds a1 a2) 0 [(0, .ref (g.2.2)), (1, .int (iI a1)), (2, .int (iI a2))] []
  have J35 : ∀ (a1 a2 a3 a4 : Int), GJ X 5 (mWo g (cx_s X).heap) Q (m5_odds_l35 a1 a2 a3 a4) 35 [(0, .ref (g.2.2)), (1, .int (iI a1)), (2, .int (iI a2)), (3, .int (iI a3)), (4, .int (iI a4))] [] := by
    intro a1 a2 a3 a4
    unfold m5_odds_l35
    refine gj_loop (fun (s : (Int × Int)) => [(0, .ref (g.2.2)), (1, .int (iI a1)), (2, .int (iI a2)), (3, .int (iI (s.1))), (4, .int (iI (s.2)))]) (a3, a4) (fun bk35 hb35 s => ?_)
    obtain ⟨a3, a4⟩ := s
    show GJ X 5 (mWo g (cx_s X).heap) Q (m5_odds_b35 a1 a2 a3 a4 bk35) 35 [(0, .ref (g.2.2)), (1, .int (iI a1)), (2, .int (iI a2)), (3, .int (iI a3)), (4, .int (iI a4))] []
    unfold m5_odds_b35
    refine gj_iload C dX5_odds_35 4 rfl ?_
    refine gj_aload_n C dX5_odds_37 0 rfl ?_
    refine mj_getI (kf := 29) C K dX5_odds_38 (by decide) (by decide) rfl q1900 rfl (fun v38 => ?_)
    refine gj_icmp_ge (tgt := 69) C dX5_odds_41 (by decide) rfl rfl (fun h41 => gj_neg h41 ?_) (fun h41 => gj_pos h41 ?_)
    · refine gj_iload_n C dX5_odds_69 3 rfl ?_
      refine gj_ldcw (z := 1000000) C dX5_odds_70 q2292 (by decide) ?_
      refine gj_imul C dX5_odds_73 ?_
      refine gj_aload_n C dX5_odds_74 0 rfl ?_
      refine mj_getI (kf := 29) C K dX5_odds_75 (by decide) (by decide) rfl q1900 rfl (fun v75 => ?_)
      refine gj_nz (fun hz78 => ?_)
      refine gj_idiv C dX5_odds_78 hz78 ?_
      exact mj_iret C hQ hr dX5_odds_79
    · refine gj_iload_n C dX5_odds_44 3 rfl ?_
      refine gj_aload_n C dX5_odds_45 0 rfl ?_
      refine gj_iload C dX5_odds_46 4 rfl ?_
      refine gj_iload_n C dX5_odds_48 2 rfl ?_
      refine mj_callVI (As := [.int (iI a4), .int (iI a2)]) (rest := [.int (iI a3)]) C K dX5_odds_49 (met5_selfOf (cx_l X) g a4 a2) (lw_V q2193 q2195 qs95 q134 q2196) hy5_selfOf hR (Nat.le_of_ble_eq_true rfl) (by decide) rfl rfl (Nat.le_of_ble_eq_true rfl) (fun v49 => ?_)
      refine gj_iload_n C dX5_odds_52 1 rfl ?_
      refine gj_dia (J := 61) (L := [(0, .ref (g.2.2)), (1, .int (iI a1)), (2, .int (iI a2)), (3, .int (iI a3)), (4, .int (iI a4))]) (st := [.int (iI a3)]) (fun d61 => ?_) (fun t hJ => ?_)
      · skip
        refine gj_iadd C dX5_odds_61 ?_
        refine gj_let (fun x62 => ?_)
        refine gj_istore_n (L' := [(3, _), (0, _), (1, _), (2, _), (4, _)]) C dX5_odds_62 (by decide) rfl ?_
        refine gj_iinc (L' := [(4, _), (3, _), (0, _), (1, _), (2, _)]) C dX5_odds_63 4 rfl (by decide) rfl ?_
        refine gj_goto (tgt := 35) C dX5_odds_66 (by decide) ?_
        exact gj_to [2, 3, 4, 1, 0] (hb35 (x62, a4 + 1)) rfl
      · refine gj_icmp_ne (tgt := 60) C dX5_odds_53 (by decide) rfl rfl (fun h53 => ?_) (fun h53 => ?_)
        · refine gj_iconst C dX5_odds_60 ?_
          exact (by rw [if_neg h53] at hJ; exact hJ)
        · refine gj_iconst C dX5_odds_56 ?_
          refine gj_goto (tgt := 61) C dX5_odds_57 (by decide) ?_
          exact (by rw [if_pos h53] at hJ; exact hJ)
  unfold m5_odds
  refine gj_aload_n C dX5_odds_0 0 rfl ?_
  refine gj_iconst C dX5_odds_1 ?_
  refine mj_putI (kf := 0) C K dX5_odds_2 (by decide) (by decide) rfl q1871 rfl rfl (by decide +kernel) ?_
  refine gj_aload_n C dX5_odds_5 0 rfl ?_
  refine gj_iload_n C dX5_odds_6 1 rfl ?_
  refine mj_callVI (As := [.int (iI a1)]) (rest := []) C K dX5_odds_7 (met5_isPerson (cx_l X) g a1) (lw_V q2138 q2140 qs87 q134 q2141) hy5_isPerson hR (Nat.le_of_ble_eq_true rfl) (by decide) rfl rfl (Nat.zero_le _) (fun v7 => ?_)
  refine gj_if_eq (tgt := 28) C dX5_odds_10 (by decide) (fun h10 => gj_pos h10 ?_) (fun h10 => gj_neg h10 ?_)
  · refine gj_iconst C dX5_odds_28 ?_
    exact mj_iret C hQ hr dX5_odds_29
  · refine gj_aload_n C dX5_odds_13 0 rfl ?_
    refine gj_iload_n C dX5_odds_14 2 rfl ?_
    refine mj_callVI (As := [.int (iI a2)]) (rest := []) C K dX5_odds_15 (met5_isPerson (cx_l X) g a2) (lw_V q2138 q2140 qs87 q134 q2141) hy5_isPerson hR (Nat.le_of_ble_eq_true rfl) (by decide) rfl rfl (Nat.zero_le _) (fun v15 => ?_)
    refine gj_if_eq (tgt := 28) C dX5_odds_18 (by decide) (fun h18 => gj_pos h18 ?_) (fun h18 => gj_neg h18 ?_)
    · refine gj_iconst C dX5_odds_28 ?_
      exact mj_iret C hQ hr dX5_odds_29
    · refine gj_aload_n C dX5_odds_21 0 rfl ?_
      refine mj_getI (kf := 29) C K dX5_odds_22 (by decide) (by decide) rfl q1900 rfl (fun v22 => ?_)
      refine gj_if_ne (tgt := 30) C dX5_odds_25 (by decide) (fun h25 => gj_neg h25 ?_) (fun h25 => gj_pos h25 ?_)
      · refine gj_iconst C dX5_odds_30 ?_
        refine gj_istore_n (L' := [(3, _), (0, _), (1, _), (2, _)]) C dX5_odds_31 (by decide) rfl ?_
        refine gj_iconst C dX5_odds_32 ?_
        refine gj_istore (L' := [(4, _), (3, _), (0, _), (1, _), (2, _)]) C dX5_odds_33 (by decide) rfl ?_
        exact gj_to [2, 3, 4, 1, 0] (J35 a1 a2 0 0) rfl
      · refine gj_iconst C dX5_odds_28 ?_
        exact mj_iret C hQ hr dX5_odds_29
def m5_weekBy_b20 (a2 : Int) (bk20 : (Int) → MM Unit) : MM Unit :=
  pite (w32 a2 < 7) (
    pbnd (m5_passes 1584) fun _ =>
    bk20 (a2 + 1)) (
    pret ())
def m5_weekBy_l20 (a2 : Int) : MM Unit :=
  ploop (fun (s : (Int)) bk20 => m5_weekBy_b20 s bk20) (a2)
def m5_weekBy (a1 : Int) : MM Unit :=
  pbnd (m5_copies 0 1584 46) fun _ =>
  pbnd (m5_leaves 1584 a1) fun _ =>
  m5_weekBy_l20 0
set_option maxHeartbeats 4000000 in
set_option maxRecDepth 100000 in
theorem met5_weekBy (l : Launch) (g : MG) (a1 : Int) : MMet l g yX5_weekBy cX5_weekBy 3 (Option.none : Option Jvm.ClassFile.FieldType) (4) [.ref (g.2.2), .int (iI a1)] (m5_weekBy a1) rvV := by
  refine mj_start (by decide +kernel) rfl (Nat.le_of_ble_eq_true rfl) (fun X Q hl C K hQ hR hr => ?_)
  subst hl
  show GJ X 3 (mWo g (cx_s X).heap) Q (m5_weekBy a1) 0 [(0, .ref (g.2.2)), (1, .int (iI a1))] []
  have J20 : ∀ (a2 : Int), GJ X 3 (mWo g (cx_s X).heap) Q (m5_weekBy_l20 a2) 20 [(0, .ref (g.2.2)), (2, .int (iI a2))] [] := by
    intro a2
    unfold m5_weekBy_l20
    refine gj_loop (fun (s : (Int)) => [(0, .ref (g.2.2)), (2, .int (iI s))]) (a2) (fun bk20 hb20 s => ?_)
    obtain ⟨a2, rfl⟩ : ∃ z, z = s := ⟨s, rfl⟩
    show GJ X 3 (mWo g (cx_s X).heap) Q (m5_weekBy_b20 a2 bk20) 20 [(0, .ref (g.2.2)), (2, .int (iI a2))] []
    unfold m5_weekBy_b20
    refine gj_iload_n C dX5_weekBy_20 1 rfl ?_
    refine gj_bipush C dX5_weekBy_21 rfl ?_
    refine gj_icmp_ge (tgt := 39) (b' := 7) C dX5_weekBy_23 (by decide) rfl (by decide) (fun h23 => gj_neg h23 ?_) (fun h23 => gj_pos h23 ?_)
    · exact mj_vret C hQ hr dX5_weekBy_39
    · refine gj_aload_n C dX5_weekBy_26 0 rfl ?_
      refine gj_sipush C dX5_weekBy_27 rfl ?_
      refine mj_callVV (As := [.int (iI 1584)]) (rest := []) C K dX5_weekBy_30 (met5_passes (cx_l X) g 1584) (lw_V q2221 q2223 qs100 q134 q2224) hy5_passes hR (Nat.le_of_ble_eq_true rfl) (by decide) rfl rfl (Nat.zero_le _) ?_
      refine gj_iinc (L' := [(2, _), (0, _)]) C dX5_weekBy_33 1 rfl (by decide) rfl ?_
      refine gj_goto (tgt := 20) C dX5_weekBy_36 (by decide) ?_
      exact gj_to [1, 0] (hb20 (a2 + 1)) rfl
  unfold m5_weekBy
  refine gj_aload_n C dX5_weekBy_0 0 rfl ?_
  refine gj_iconst C dX5_weekBy_1 ?_
  refine gj_sipush C dX5_weekBy_2 rfl ?_
  refine gj_bipush C dX5_weekBy_5 rfl ?_
  refine mj_callVV (As := [.int (iI 0), .int (iI 1584), .int (iI 46)]) (rest := []) C K dX5_weekBy_7 (met5_copies (cx_l X) g 0 1584 46) (lw_V q2169 q2171 qs91 q134 q2172) hy5_copies hR (Nat.le_of_ble_eq_true rfl) (by decide) rfl rfl (Nat.zero_le _) ?_
  refine gj_aload_n C dX5_weekBy_10 0 rfl ?_
  refine gj_sipush C dX5_weekBy_11 rfl ?_
  refine gj_iload_n C dX5_weekBy_14 1 rfl ?_
  refine mj_callVV (As := [.int (iI 1584), .int (iI a1)]) (rest := []) C K dX5_weekBy_15 (met5_leaves (cx_l X) g 1584 a1) (lw_V q2189 q2191 qs94 q134 q2192) hy5_leaves hR (Nat.le_of_ble_eq_true rfl) (by decide) rfl rfl (Nat.zero_le _) ?_
  refine gj_iconst C dX5_weekBy_18 ?_
  refine gj_istore_n (L' := [(2, _), (0, _), (1, _)]) C dX5_weekBy_19 (by decide) rfl ?_
  exact gj_to [1, 0] (J20 0) rfl
def m5_least_b35 (a1 : Int) (a2 a3 a4 : Int) (bk35 : (Int × Int × Int) → MM Int) : MM Int :=
  pbnd (mget 29) fun v38 =>
  pite (w32 a4 < w32 v38) (
    pbnd (m5_weekBy a4) fun _ =>
    pbnd (m5_allHarm 1584 0) fun v55 =>
    plet (if w32 a3 < 0 then a4 else if w32 v55 < w32 a3 then a4 else a2) fun d76 =>
    plet (if w32 a3 < 0 then v55 else if w32 v55 < w32 a3 then v55 else a3) fun d93 =>
    bk35 (d76, d93, a4 + 1)) (
    pite (w32 a1 < 0) (
      pret (w32 a3)) (
      pbnd (m5_selfOf a2 a1) fun v111 =>
      pret v111))
def m5_least_l35 (a1 a2 a3 a4 : Int) : MM Int :=
  ploop (fun (s : (Int × Int × Int)) bk35 => m5_least_b35 a1 s.1 s.2.1 s.2.2 bk35) (a2, a3, a4)
def m5_least_j18 (a1 : Int) : MM Int :=
  pbnd (mget 29) fun v19 =>
  pite (w32 v19 = 0) (
    pret (-2)) (
    m5_least_l35 a1 0 (-1) 0)
def m5_least (a1 : Int) : MM Int :=
  pbnd (mput 0 0) fun _ =>
  pite (w32 a1 = (-1)) (
    m5_least_j18 a1) (
    pbnd (m5_isPerson a1) fun v12 =>
    pite (w32 v12 = 0) (
      pret (-2)) (
      m5_least_j18 a1))
set_option maxHeartbeats 4000000 in
set_option maxRecDepth 100000 in
theorem met5_least (l : Launch) (g : MG) (a1 : Int) : MMet l g yX5_least cX5_least 6 (Option.some Jvm.ClassFile.FieldType.int) (5) [.ref (g.2.2), .int (iI a1)] (m5_least a1) rvI := by
  refine mj_start (by decide +kernel) rfl (Nat.le_of_ble_eq_true rfl) (fun X Q hl C K hQ hR hr => ?_)
  subst hl
  show GJ X 6 (mWo g (cx_s X).heap) Q (m5_least a1) 0 [(0, .ref (g.2.2)), (1, .int (iI a1))] []
  have J35 : ∀ (a1 a2 a3 a4 : Int), GJ X 6 (mWo g (cx_s X).heap) Q (m5_least_l35 a1 a2 a3 a4) 35 [(0, .ref (g.2.2)), (1, .int (iI a1)), (2, .int (iI a2)), (3, .int (iI a3)), (4, .int (iI a4))] [] := by
    intro a1 a2 a3 a4
    unfold m5_least_l35
    refine gj_loop (fun (s : (Int × Int × Int)) => [(0, .ref (g.2.2)), (1, .int (iI a1)), (2, .int (iI (s.1))), (3, .int (iI (s.2.1))), (4, .int (iI (s.2.2)))]) (a2, a3, a4) (fun bk35 hb35 s => ?_)
    obtain ⟨a2, a3, a4⟩ := s
    show GJ X 6 (mWo g (cx_s X).heap) Q (m5_least_b35 a1 a2 a3 a4 bk35) 35 [(0, .ref (g.2.2)), (1, .int (iI a1)), (2, .int (iI a2)), (3, .int (iI a3)), (4, .int (iI a4))] []
    unfold m5_least_b35
    refine gj_iload C dX5_least_35 4 rfl ?_
    refine gj_aload_n C dX5_least_37 0 rfl ?_
    refine mj_getI (kf := 29) C K dX5_least_38 (by decide) (by decide) rfl q1900 rfl (fun v38 => ?_)
    refine gj_icmp_ge (tgt := 100) C dX5_least_41 (by decide) rfl rfl (fun h41 => gj_neg h41 ?_) (fun h41 => gj_pos h41 ?_)
    · refine gj_iload_n C dX5_least_100 1 rfl ?_
      refine gj_if_ge (tgt := 108) C dX5_least_101 (by decide) (fun h101 => gj_neg h101 ?_) (fun h101 => gj_pos h101 ?_)
      · refine gj_aload_n C dX5_least_108 0 rfl ?_
        refine gj_iload_n C dX5_least_109 2 rfl ?_
        refine gj_iload_n C dX5_least_110 1 rfl ?_
        refine mj_callVI (As := [.int (iI a2), .int (iI a1)]) (rest := []) C K dX5_least_111 (met5_selfOf (cx_l X) g a2 a1) (lw_V q2193 q2195 qs95 q134 q2196) hy5_selfOf hR (Nat.le_of_ble_eq_true rfl) (by decide) rfl rfl (Nat.zero_le _) (fun v111 => ?_)
        exact mj_iret C hQ hr dX5_least_114
      · refine gj_iload_n C dX5_least_104 3 rfl ?_
        refine gj_goto (tgt := 114) C dX5_least_105 (by decide) ?_
        refine gj_nrmI ?_
        exact mj_iret C hQ hr dX5_least_114
    · refine gj_aload_n C dX5_least_44 0 rfl ?_
      refine gj_iload C dX5_least_45 4 rfl ?_
      refine mj_callVV (As := [.int (iI a4)]) (rest := []) C K dX5_least_47 (met5_weekBy (cx_l X) g a4) (lw_V q2297 q2299 qs112 q134 q2300) hy5_weekBy hR (Nat.le_of_ble_eq_true rfl) (by decide) rfl rfl (Nat.zero_le _) ?_
      refine gj_aload_n C dX5_least_50 0 rfl ?_
      refine gj_sipush C dX5_least_51 rfl ?_
      refine gj_iconst C dX5_least_54 ?_
      refine mj_callVI (As := [.int (iI 1584), .int (iI 0)]) (rest := []) C K dX5_least_55 (met5_allHarm (cx_l X) g 1584 0) (lw_V q2264 q2266 qs109 q134 q2267) hy5_allHarm hR (Nat.le_of_ble_eq_true rfl) (by decide) rfl rfl (Nat.zero_le _) (fun v55 => ?_)
      refine gj_istore (L' := [(5, _), (0, _), (1, _), (2, _), (3, _), (4, _)]) C dX5_least_58 (by decide) rfl ?_
      refine gj_iload_n C dX5_least_60 4 rfl ?_
      refine gj_dia (J := 76) (L := [(5, .int (iI v55)), (0, .ref (g.2.2)), (1, .int (iI a1)), (2, .int (iI a2)), (3, .int (iI a3)), (4, .int (iI a4))]) (st := []) (fun d76 => ?_) (fun t hJ => ?_)
      · skip
        refine gj_istore_n (L' := [(2, _), (5, _), (0, _), (1, _), (3, _), (4, _)]) C dX5_least_76 (by decide) rfl ?_
        refine gj_iload_n C dX5_least_77 4 rfl ?_
        refine gj_dia (J := 93) (L := [(2, .int (iI d76)), (5, .int (iI v55)), (0, .ref (g.2.2)), (1, .int (iI a1)), (3, .int (iI a3)), (4, .int (iI a4))]) (st := []) (fun d93 => ?_) (fun t hJ => ?_)
        · skip
          refine gj_istore_n (L' := [(3, _), (2, _), (5, _), (0, _), (1, _), (4, _)]) C dX5_least_93 (by decide) rfl ?_
          refine gj_iinc (L' := [(4, _), (3, _), (2, _), (5, _), (0, _), (1, _)]) C dX5_least_94 5 rfl (by decide) rfl ?_
          refine gj_goto (tgt := 35) C dX5_least_97 (by decide) ?_
          exact gj_to [4, 5, 2, 1, 0] (hb35 (d76, d93, a4 + 1)) rfl
        · refine gj_if_lt (tgt := 87) C dX5_least_78 (by decide) (fun h78 => ?_) (fun h78 => ?_)
          · refine gj_iload C dX5_least_87 1 rfl ?_
            refine gj_goto (tgt := 93) C dX5_least_89 (by decide) ?_
            exact (by rw [if_pos h78] at hJ; exact hJ)
          · refine gj_iload C dX5_least_81 1 rfl ?_
            refine gj_iload_n C dX5_least_83 4 rfl ?_
            refine gj_icmp_ge (tgt := 92) C dX5_least_84 (by decide) rfl rfl (fun h84 => ?_) (fun h84 => ?_)
            · refine gj_iload_n C dX5_least_92 4 rfl ?_
              exact (by rw [if_neg h78, if_neg h84] at hJ; exact hJ)
            · refine gj_iload C dX5_least_87 1 rfl ?_
              refine gj_goto (tgt := 93) C dX5_least_89 (by decide) ?_
              exact (by rw [if_neg h78, if_pos h84] at hJ; exact hJ)
      · refine gj_if_lt (tgt := 70) C dX5_least_61 (by decide) (fun h61 => ?_) (fun h61 => ?_)
        · refine gj_iload C dX5_least_70 5 rfl ?_
          refine gj_goto (tgt := 76) C dX5_least_72 (by decide) ?_
          exact (by rw [if_pos h61] at hJ; exact hJ)
        · refine gj_iload C dX5_least_64 0 rfl ?_
          refine gj_iload_n C dX5_least_66 4 rfl ?_
          refine gj_icmp_ge (tgt := 75) C dX5_least_67 (by decide) rfl rfl (fun h67 => ?_) (fun h67 => ?_)
          · refine gj_iload_n C dX5_least_75 3 rfl ?_
            exact (by rw [if_neg h61, if_neg h67] at hJ; exact hJ)
          · refine gj_iload C dX5_least_70 5 rfl ?_
            refine gj_goto (tgt := 76) C dX5_least_72 (by decide) ?_
            exact (by rw [if_neg h61, if_pos h67] at hJ; exact hJ)
  have J18 : ∀ (a1 : Int), GJ X 6 (mWo g (cx_s X).heap) Q (m5_least_j18 a1) 18 [(0, .ref (g.2.2)), (1, .int (iI a1))] [] := by
    intro a1
    unfold m5_least_j18
    refine gj_aload_n C dX5_least_18 0 rfl ?_
    refine mj_getI (kf := 29) C K dX5_least_19 (by decide) (by decide) rfl q1900 rfl (fun v19 => ?_)
    refine gj_if_ne (tgt := 28) C dX5_least_22 (by decide) (fun h22 => gj_neg h22 ?_) (fun h22 => gj_pos h22 ?_)
    · refine gj_iconst C dX5_least_28 ?_
      refine gj_istore_n (L' := [(2, _), (0, _), (1, _)]) C dX5_least_29 (by decide) rfl ?_
      refine gj_iconst C dX5_least_30 ?_
      refine gj_istore_n (L' := [(3, _), (2, _), (0, _), (1, _)]) C dX5_least_31 (by decide) rfl ?_
      refine gj_iconst C dX5_least_32 ?_
      refine gj_istore (L' := [(4, _), (3, _), (2, _), (0, _), (1, _)]) C dX5_least_33 (by decide) rfl ?_
      exact gj_to [3, 4, 2, 1, 0] (J35 a1 0 (-1) 0) rfl
    · refine gj_bipush C dX5_least_25 rfl ?_
      exact mj_iret C hQ hr dX5_least_27
  unfold m5_least
  refine gj_aload_n C dX5_least_0 0 rfl ?_
  refine gj_iconst C dX5_least_1 ?_
  refine mj_putI (kf := 0) C K dX5_least_2 (by decide) (by decide) rfl q1871 rfl rfl (by decide +kernel) ?_
  refine gj_iload_n C dX5_least_5 1 rfl ?_
  refine gj_iconst C dX5_least_6 ?_
  refine gj_icmp_eq (tgt := 18) (b' := (-1)) C dX5_least_7 (by decide) rfl (by decide) (fun h7 => gj_pos h7 ?_) (fun h7 => gj_neg h7 ?_)
  · exact gj_to [0, 1] (J18 a1) rfl
  · refine gj_aload_n C dX5_least_10 0 rfl ?_
    refine gj_iload_n C dX5_least_11 1 rfl ?_
    refine mj_callVI (As := [.int (iI a1)]) (rest := []) C K dX5_least_12 (met5_isPerson (cx_l X) g a1) (lw_V q2138 q2140 qs87 q134 q2141) hy5_isPerson hR (Nat.le_of_ble_eq_true rfl) (by decide) rfl rfl (Nat.zero_le _) (fun v12 => ?_)
    refine gj_if_eq (tgt := 25) C dX5_least_15 (by decide) (fun h15 => gj_pos h15 ?_) (fun h15 => gj_neg h15 ?_)
    · refine gj_bipush C dX5_least_25 rfl ?_
      exact mj_iret C hQ hr dX5_least_27
    · exact gj_to [0, 1] (J18 a1) rfl
def m5_prepare_b82 (a1 a2 a3 a4 a5 a7 : Int) (bk52 : (Int × Int × Int) → MM Int) (a8 a10 : Int) (bk82 : (Int × Int) → MM Int) : MM Int :=
  pbnd (mget 29) fun v85 =>
  pite (w32 a10 < w32 v85) (
    pbnd (m5_weekBy a10) fun _ =>
    pbnd (m5_harmOf 1584 a1 0) fun v105 =>
    plet (a8 + (zi2l v105)) fun x110 =>
    bk82 (x110, a10 + 1)) (
    plet (if w32 (lcmp' a5 0) < 0 then a7 else if w32 (lcmp' a8 a5) < 0 then a7 else a4) fun d140 =>
    plet (if w32 (lcmp' a5 0) < 0 then a8 else if w32 (lcmp' a8 a5) < 0 then a8 else a5) fun d164 =>
    bk52 (d140, d164, a7 + 25))
def m5_prepare_l82 (a1 a2 a3 a4 a5 a7 a8 a10 : Int) (bk52 : (Int × Int × Int) → MM Int) : MM Int :=
  ploop (fun (s : (Int × Int)) bk82 => m5_prepare_b82 a1 a2 a3 a4 a5 a7 bk52 s.1 s.2 bk82) (a8, a10)
def m5_prepare_b52 (a1 a2 a3 : Int) (a4 a5 a7 : Int) (bk52 : (Int × Int × Int) → MM Int) : MM Int :=
  pbnd (mrd 14 1656 (4 + a1)) fun v61 =>
  pite (w32 v61 < w32 a7) (
    pbnd (mwr 14 1656 (22 + a1) (w32 a3)) fun _ =>
    pite (w32 a2 = 0) (
      pret (w32 a4)) (
      pbnd (mget 29) fun v198 =>
      pbnd (pnzl (zi2l v198)) fun _ =>
      pret (zl2i (ldiv' ((a5 * 1000)) (zi2l v198))))) (
    pbnd (mwr 14 1656 (22 + a1) (w32 a7)) fun _ =>
    m5_prepare_l82 a1 a2 a3 a4 a5 a7 0 0 bk52)
def m5_prepare_l52 (a1 a2 a3 a4 a5 a7 : Int) : MM Int :=
  ploop (fun (s : (Int × Int × Int)) bk52 => m5_prepare_b52 a1 a2 a3 s.1 s.2.1 s.2.2 bk52) (a4, a5, a7)
def m5_prepare (a1 a2 : Int) : MM Int :=
  pbnd (mput 0 0) fun _ =>
  pbnd (m5_isPerson a1) fun v7 =>
  pite (w32 v7 = 0) (
    pret (-1)) (
    pbnd (m5_within a2 0 1) fun v16 =>
    pite (w32 v16 = 0) (
      pret (-1)) (
      pbnd (mget 29) fun v23 =>
      pite (w32 v23 = 0) (
        pret (-1)) (
        pbnd (mrd 14 1656 (22 + a1)) fun v39 =>
        m5_prepare_l52 a1 a2 v39 0 (-1) 0)))
set_option maxHeartbeats 4000000 in
set_option maxRecDepth 100000 in
theorem met5_prepare (l : Launch) (g : MG) (a1 a2 : Int) : MMet l g yX5_prepare cX5_prepare 11 (Option.some Jvm.ClassFile.FieldType.int) (5) [.ref (g.2.2), .int (iI a1), .int (iI a2)] (m5_prepare a1 a2) rvI := by
  refine mj_start (by decide +kernel) rfl (Nat.le_of_ble_eq_true rfl) (fun X Q hl C K hQ hR hr => ?_)
  subst hl
  show GJ X 11 (mWo g (cx_s X).heap) Q (m5_prepare a1 a2) 0 [(0, .ref (g.2.2)), (1, .int (iI a1)), (2, .int (iI a2))] []
  have J52 : ∀ (a1 a2 a3 a4 a5 a7 : Int), GJ X 11 (mWo g (cx_s X).heap) Q (m5_prepare_l52 a1 a2 a3 a4 a5 a7) 52 [(0, .ref (g.2.2)), (1, .int (iI a1)), (2, .int (iI a2)), (3, .int (iI a3)), (4, .int (iI a4)), (5, .long (iL a5)), (7, .int (iI a7))] [] := by
    intro a1 a2 a3 a4 a5 a7
    unfold m5_prepare_l52
    refine gj_loop (fun (s : (Int × Int × Int)) => [(0, .ref (g.2.2)), (1, .int (iI a1)), (2, .int (iI a2)), (3, .int (iI a3)), (4, .int (iI (s.1))), (5, .long (iL (s.2.1))), (7, .int (iI (s.2.2)))]) (a4, a5, a7) (fun bk52 hb52 s => ?_)
    obtain ⟨a4, a5, a7⟩ := s
    show GJ X 11 (mWo g (cx_s X).heap) Q (m5_prepare_b52 a1 a2 a3 a4 a5 a7 bk52) 52 [(0, .ref (g.2.2)), (1, .int (iI a1)), (2, .int (iI a2)), (3, .int (iI a3)), (4, .int (iI a4)), (5, .long (iL a5)), (7, .int (iI a7))] []
    have J82 : ∀ (a4 a5 a7 a8 a10 : Int), GJ X 11 (mWo g (cx_s X).heap) Q (m5_prepare_l82 a1 a2 a3 a4 a5 a7 a8 a10 bk52) 82 [(0, .ref (g.2.2)), (1, .int (iI a1)), (2, .int (iI a2)), (3, .int (iI a3)), (4, .int (iI a4)), (5, .long (iL a5)), (7, .int (iI a7)), (8, .long (iL a8)), (10, .int (iI a10))] [] := by
      intro a4 a5 a7 a8 a10
      unfold m5_prepare_l82
      refine gj_loop (fun (s : (Int × Int)) => [(0, .ref (g.2.2)), (1, .int (iI a1)), (2, .int (iI a2)), (3, .int (iI a3)), (4, .int (iI a4)), (5, .long (iL a5)), (7, .int (iI a7)), (8, .long (iL (s.1))), (10, .int (iI (s.2)))]) (a8, a10) (fun bk82 hb82 s => ?_)
      obtain ⟨a8, a10⟩ := s
      show GJ X 11 (mWo g (cx_s X).heap) Q (m5_prepare_b82 a1 a2 a3 a4 a5 a7 bk52 a8 a10 bk82) 82 [(0, .ref (g.2.2)), (1, .int (iI a1)), (2, .int (iI a2)), (3, .int (iI a3)), (4, .int (iI a4)), (5, .long (iL a5)), (7, .int (iI a7)), (8, .long (iL a8)), (10, .int (iI a10))] []
      unfold m5_prepare_b82
      refine gj_iload C dX5_prepare_82 8 rfl ?_
      refine gj_aload_n C dX5_prepare_84 0 rfl ?_
      refine mj_getI (kf := 29) C K dX5_prepare_85 (by decide) (by decide) rfl q1900 rfl (fun v85 => ?_)
      refine gj_icmp_ge (tgt := 118) C dX5_prepare_88 (by decide) rfl rfl (fun h88 => gj_neg h88 ?_) (fun h88 => gj_pos h88 ?_)
      · refine gj_lload C dX5_prepare_118 5 rfl ?_
        refine gj_lconst (z := 0) C dX5_prepare_120 rfl ?_
        refine gj_lcmp C dX5_prepare_121 ?_
        refine gj_dia (J := 140) (L := [(0, .ref (g.2.2)), (1, .int (iI a1)), (2, .int (iI a2)), (3, .int (iI a3)), (4, .int (iI a4)), (5, .long (iL a5)), (7, .int (iI a7)), (8, .long (iL a8)), (10, .int (iI a10))]) (st := []) (fun d140 => ?_) (fun t hJ => ?_)
        · skip
          refine gj_istore (L' := [(4, _), (0, _), (1, _), (2, _), (3, _), (5, _), (7, _), (8, _), (10, _)]) C dX5_prepare_140 (by decide) rfl ?_
          refine gj_lload C dX5_prepare_142 5 rfl ?_
          refine gj_lconst (z := 0) C dX5_prepare_144 rfl ?_
          refine gj_lcmp C dX5_prepare_145 ?_
          refine gj_dial (J := 164) (L := [(4, .int (iI d140)), (0, .ref (g.2.2)), (1, .int (iI a1)), (2, .int (iI a2)), (3, .int (iI a3)), (5, .long (iL a5)), (7, .int (iI a7)), (8, .long (iL a8)), (10, .int (iI a10))]) (st := []) (fun d164 => ?_) (fun t hJ => ?_)
          · skip
            refine gj_lstore (L' := [(5, _), (4, _), (0, _), (1, _), (2, _), (3, _), (7, _), (8, _), (10, _)]) C dX5_prepare_164 (by decide) rfl ?_
            refine gj_iinc (L' := [(7, _), (5, _), (4, _), (0, _), (1, _), (2, _), (3, _), (8, _), (10, _)]) C dX5_prepare_166 6 rfl (by decide) rfl ?_
            refine gj_goto (tgt := 52) C dX5_prepare_169 (by decide) ?_
            exact gj_to [3, 4, 5, 6, 2, 1, 0] (hb52 (d140, d164, a7 + 25)) rfl
          · refine gj_if_lt (tgt := 157) C dX5_prepare_146 (by decide) (fun h146 => ?_) (fun h146 => ?_)
            · refine gj_lload C dX5_prepare_157 7 rfl ?_
              refine gj_goto (tgt := 164) C dX5_prepare_159 (by decide) ?_
              exact (by rw [if_pos h146] at hJ; exact hJ)
            · refine gj_lload C dX5_prepare_149 7 rfl ?_
              refine gj_lload C dX5_prepare_151 5 rfl ?_
              refine gj_lcmp C dX5_prepare_153 ?_
              refine gj_if_ge (tgt := 162) C dX5_prepare_154 (by decide) (fun h154 => ?_) (fun h154 => ?_)
              · refine gj_lload C dX5_prepare_162 5 rfl ?_
                exact (by rw [if_neg h146, if_neg h154] at hJ; exact hJ)
              · refine gj_lload C dX5_prepare_157 7 rfl ?_
                refine gj_goto (tgt := 164) C dX5_prepare_159 (by decide) ?_
                exact (by rw [if_neg h146, if_pos h154] at hJ; exact hJ)
        · refine gj_if_lt (tgt := 133) C dX5_prepare_122 (by decide) (fun h122 => ?_) (fun h122 => ?_)
          · refine gj_iload C dX5_prepare_133 6 rfl ?_
            refine gj_goto (tgt := 140) C dX5_prepare_135 (by decide) ?_
            exact (by rw [if_pos h122] at hJ; exact hJ)
          · refine gj_lload C dX5_prepare_125 7 rfl ?_
            refine gj_lload C dX5_prepare_127 5 rfl ?_
            refine gj_lcmp C dX5_prepare_129 ?_
            refine gj_if_ge (tgt := 138) C dX5_prepare_130 (by decide) (fun h130 => ?_) (fun h130 => ?_)
            · refine gj_iload C dX5_prepare_138 4 rfl ?_
              exact (by rw [if_neg h122, if_neg h130] at hJ; exact hJ)
            · refine gj_iload C dX5_prepare_133 6 rfl ?_
              refine gj_goto (tgt := 140) C dX5_prepare_135 (by decide) ?_
              exact (by rw [if_neg h122, if_pos h130] at hJ; exact hJ)
      · refine gj_aload_n C dX5_prepare_91 0 rfl ?_
        refine gj_iload C dX5_prepare_92 8 rfl ?_
        refine mj_callVV (As := [.int (iI a10)]) (rest := []) C K dX5_prepare_94 (met5_weekBy (cx_l X) g a10) (lw_V q2297 q2299 qs112 q134 q2300) hy5_weekBy hR (Nat.le_of_ble_eq_true rfl) (by decide) rfl rfl (Nat.zero_le _) ?_
        refine gj_lload C dX5_prepare_97 7 rfl ?_
        refine gj_aload_n C dX5_prepare_99 0 rfl ?_
        refine gj_sipush C dX5_prepare_100 rfl ?_
        refine gj_iload_n C dX5_prepare_103 1 rfl ?_
        refine gj_iconst C dX5_prepare_104 ?_
        refine mj_callVI (As := [.int (iI 1584), .int (iI a1), .int (iI 0)]) (rest := [.long (iL a8)]) C K dX5_prepare_105 (met5_harmOf (cx_l X) g 1584 a1 0) (lw_V q2149 q2151 qs88 q134 q2152) hy5_harmOf hR (Nat.le_of_ble_eq_true rfl) (by decide) rfl rfl (Nat.le_of_ble_eq_true rfl) (fun v105 => ?_)
        refine gj_i2l C dX5_prepare_108 ?_
        refine gj_ladd C dX5_prepare_109 ?_
        refine gj_letl (fun x110 => ?_)
        refine gj_lstore (L' := [(8, _), (0, _), (1, _), (2, _), (3, _), (4, _), (5, _), (7, _), (10, _)]) C dX5_prepare_110 (by decide) rfl ?_
        refine gj_iinc (L' := [(10, _), (8, _), (0, _), (1, _), (2, _), (3, _), (4, _), (5, _), (7, _)]) C dX5_prepare_112 8 rfl (by decide) rfl ?_
        refine gj_goto (tgt := 82) C dX5_prepare_115 (by decide) ?_
        exact gj_to [2, 3, 4, 5, 6, 7, 8, 1, 0] (hb82 (x110, a10 + 1)) rfl
    unfold m5_prepare_b52
    refine gj_iload C dX5_prepare_52 6 rfl ?_
    refine gj_aload_n C dX5_prepare_54 0 rfl ?_
    refine mj_getR (kf := 23) (j := 14) C K dX5_prepare_55 (by decide) (by decide) rfl (by decide) q1894 rfl ?_
    refine gj_iconst C dX5_prepare_58 ?_
    refine gj_iload_n C dX5_prepare_59 1 rfl ?_
    refine gj_iadd C dX5_prepare_60 ?_
    refine mj_iald (j := 14) C K dX5_prepare_61 (by decide) rfl (fun v61 => ?_)
    refine gj_icmp_gt (tgt := 172) C dX5_prepare_62 (by decide) rfl rfl (fun h62 => gj_pos h62 ?_) (fun h62 => gj_neg h62 ?_)
    · refine gj_aload_n C dX5_prepare_172 0 rfl ?_
      refine mj_getR (kf := 23) (j := 14) C K dX5_prepare_173 (by decide) (by decide) rfl (by decide) q1894 rfl ?_
      refine gj_bipush C dX5_prepare_176 rfl ?_
      refine gj_iload_n C dX5_prepare_178 1 rfl ?_
      refine gj_iadd C dX5_prepare_179 ?_
      refine gj_iload_n C dX5_prepare_180 3 rfl ?_
      refine gj_nrmI ?_
      refine mj_iast (j := 14) C K dX5_prepare_181 (by decide) (by decide) rfl ?_
      refine gj_iload_n C dX5_prepare_182 2 rfl ?_
      refine gj_if_ne (tgt := 191) C dX5_prepare_183 (by decide) (fun h183 => gj_neg h183 ?_) (fun h183 => gj_pos h183 ?_)
      · refine gj_lload C dX5_prepare_191 5 rfl ?_
        refine gj_ldc2 (z := 1000) C dX5_prepare_193 q2306 (by decide) ?_
        refine gj_lmul C dX5_prepare_196 ?_
        refine gj_aload_n C dX5_prepare_197 0 rfl ?_
        refine mj_getI (kf := 29) C K dX5_prepare_198 (by decide) (by decide) rfl q1900 rfl (fun v198 => ?_)
        refine gj_i2l C dX5_prepare_201 ?_
        refine gj_nzl (fun hz202 => ?_)
        refine gj_ldiv C dX5_prepare_202 hz202 ?_
        refine gj_l2i C dX5_prepare_203 ?_
        exact mj_iret C hQ hr dX5_prepare_204
      · refine gj_iload C dX5_prepare_186 4 rfl ?_
        refine gj_goto (tgt := 204) C dX5_prepare_188 (by decide) ?_
        refine gj_nrmI ?_
        exact mj_iret C hQ hr dX5_prepare_204
    · refine gj_aload_n C dX5_prepare_65 0 rfl ?_
      refine mj_getR (kf := 23) (j := 14) C K dX5_prepare_66 (by decide) (by decide) rfl (by decide) q1894 rfl ?_
      refine gj_bipush C dX5_prepare_69 rfl ?_
      refine gj_iload_n C dX5_prepare_71 1 rfl ?_
      refine gj_iadd C dX5_prepare_72 ?_
      refine gj_iload C dX5_prepare_73 6 rfl ?_
      refine gj_nrmI ?_
      refine mj_iast (j := 14) C K dX5_prepare_75 (by decide) (by decide) rfl ?_
      refine gj_lconst (z := 0) C dX5_prepare_76 rfl ?_
      refine gj_lstore (L' := [(8, _), (0, _), (1, _), (2, _), (3, _), (4, _), (5, _), (7, _)]) C dX5_prepare_77 (by decide) rfl ?_
      refine gj_iconst C dX5_prepare_79 ?_
      refine gj_istore (L' := [(10, _), (8, _), (0, _), (1, _), (2, _), (3, _), (4, _), (5, _), (7, _)]) C dX5_prepare_80 (by decide) rfl ?_
      exact gj_to [2, 3, 4, 5, 6, 7, 8, 1, 0] (J82 a4 a5 a7 0 0) rfl
  unfold m5_prepare
  refine gj_aload_n C dX5_prepare_0 0 rfl ?_
  refine gj_iconst C dX5_prepare_1 ?_
  refine mj_putI (kf := 0) C K dX5_prepare_2 (by decide) (by decide) rfl q1871 rfl rfl (by decide +kernel) ?_
  refine gj_aload_n C dX5_prepare_5 0 rfl ?_
  refine gj_iload_n C dX5_prepare_6 1 rfl ?_
  refine mj_callVI (As := [.int (iI a1)]) (rest := []) C K dX5_prepare_7 (met5_isPerson (cx_l X) g a1) (lw_V q2138 q2140 qs87 q134 q2141) hy5_isPerson hR (Nat.le_of_ble_eq_true rfl) (by decide) rfl rfl (Nat.zero_le _) (fun v7 => ?_)
  refine gj_if_eq (tgt := 29) C dX5_prepare_10 (by decide) (fun h10 => gj_pos h10 ?_) (fun h10 => gj_neg h10 ?_)
  · refine gj_iconst C dX5_prepare_29 ?_
    exact mj_iret C hQ hr dX5_prepare_30
  · refine gj_iload_n C dX5_prepare_13 2 rfl ?_
    refine gj_iconst C dX5_prepare_14 ?_
    refine gj_iconst C dX5_prepare_15 ?_
    refine mj_callSI (As := [.int (iI a2), .int (iI 0), .int (iI 1)]) (rest := []) C K dX5_prepare_16 (met5_within (cx_l X) g a2 0 1) (lw_S q2142 q2143 q134 q2144) hy5s_within hR (Nat.le_of_ble_eq_true rfl) (by decide) rfl rfl (Nat.zero_le _) (fun v16 => ?_)
    refine gj_if_eq (tgt := 29) C dX5_prepare_19 (by decide) (fun h19 => gj_pos h19 ?_) (fun h19 => gj_neg h19 ?_)
    · refine gj_iconst C dX5_prepare_29 ?_
      exact mj_iret C hQ hr dX5_prepare_30
    · refine gj_aload_n C dX5_prepare_22 0 rfl ?_
      refine mj_getI (kf := 29) C K dX5_prepare_23 (by decide) (by decide) rfl q1900 rfl (fun v23 => ?_)
      refine gj_if_ne (tgt := 31) C dX5_prepare_26 (by decide) (fun h26 => gj_neg h26 ?_) (fun h26 => gj_pos h26 ?_)
      · refine gj_aload_n C dX5_prepare_31 0 rfl ?_
        refine mj_getR (kf := 23) (j := 14) C K dX5_prepare_32 (by decide) (by decide) rfl (by decide) q1894 rfl ?_
        refine gj_bipush C dX5_prepare_35 rfl ?_
        refine gj_iload_n C dX5_prepare_37 1 rfl ?_
        refine gj_iadd C dX5_prepare_38 ?_
        refine mj_iald (j := 14) C K dX5_prepare_39 (by decide) rfl (fun v39 => ?_)
        refine gj_istore_n (L' := [(3, _), (0, _), (1, _), (2, _)]) C dX5_prepare_40 (by decide) rfl ?_
        refine gj_iconst C dX5_prepare_41 ?_
        refine gj_istore (L' := [(4, _), (3, _), (0, _), (1, _), (2, _)]) C dX5_prepare_42 (by decide) rfl ?_
        refine gj_ldc2 (z := (-1)) C dX5_prepare_44 q2305 (by decide) ?_
        refine gj_lstore (L' := [(5, _), (4, _), (3, _), (0, _), (1, _), (2, _)]) C dX5_prepare_47 (by decide) rfl ?_
        refine gj_iconst C dX5_prepare_49 ?_
        refine gj_istore (L' := [(7, _), (5, _), (4, _), (3, _), (0, _), (1, _), (2, _)]) C dX5_prepare_50 (by decide) rfl ?_
        exact gj_to [4, 5, 6, 3, 2, 1, 0] (J52 a1 a2 v39 0 (-1) 0) rfl
      · refine gj_iconst C dX5_prepare_29 ?_
        exact mj_iret C hQ hr dX5_prepare_30
def m5_law_b35 (a2 a4 : Int) (bk35 : (Int × Int) → MM Int) : MM Int :=
  pbnd (mget 29) fun v38 =>
  pite (w32 a4 < w32 v38) (
    pbnd (m5_weekBy a4) fun _ =>
    pbnd (m5_allHarm 1584 0) fun v56 =>
    plet (a2 + (zi2l v56)) fun x61 =>
    bk35 (x61, a4 + 1)) (
    pbnd (mrd 6 160 2) fun v74 =>
    pbnd (mput 26 v74) fun _ =>
    pbnd (mget 29) fun v84 =>
    pbnd (pnzl (zi2l v84)) fun _ =>
    pret (zl2i (ldiv' ((a2 * 1000)) (zi2l v84))))
def m5_law_l35 (a2 a4 : Int) : MM Int :=
  ploop (fun (s : (Int × Int)) bk35 => m5_law_b35 s.1 s.2 bk35) (a2, a4)
def m5_law (a1 : Int) : MM Int :=
  pbnd (mput 0 0) fun _ =>
  pbnd (m5_within a1 0 999) fun v10 =>
  pite (w32 v10 = 0) (
    pret (-1)) (
    pbnd (mget 29) fun v17 =>
    pite (w32 v17 = 0) (
      pret (-1)) (
      pbnd (mput 26 (w32 a1)) fun _ =>
      m5_law_l35 0 0))
set_option maxHeartbeats 4000000 in
set_option maxRecDepth 100000 in
theorem met5_law (l : Launch) (g : MG) (a1 : Int) : MMet l g yX5_law cX5_law 5 (Option.some Jvm.ClassFile.FieldType.int) (5) [.ref (g.2.2), .int (iI a1)] (m5_law a1) rvI := by
  refine mj_start (by decide +kernel) rfl (Nat.le_of_ble_eq_true rfl) (fun X Q hl C K hQ hR hr => ?_)
  subst hl
  show GJ X 5 (mWo g (cx_s X).heap) Q (m5_law a1) 0 [(0, .ref (g.2.2)), (1, .int (iI a1))] []
  have J35 : ∀ (a2 a4 : Int), GJ X 5 (mWo g (cx_s X).heap) Q (m5_law_l35 a2 a4) 35 [(0, .ref (g.2.2)), (2, .long (iL a2)), (4, .int (iI a4))] [] := by
    intro a2 a4
    unfold m5_law_l35
    refine gj_loop (fun (s : (Int × Int)) => [(0, .ref (g.2.2)), (2, .long (iL (s.1))), (4, .int (iI (s.2)))]) (a2, a4) (fun bk35 hb35 s => ?_)
    obtain ⟨a2, a4⟩ := s
    show GJ X 5 (mWo g (cx_s X).heap) Q (m5_law_b35 a2 a4 bk35) 35 [(0, .ref (g.2.2)), (2, .long (iL a2)), (4, .int (iI a4))] []
    unfold m5_law_b35
    refine gj_iload C dX5_law_35 2 rfl ?_
    refine gj_aload_n C dX5_law_37 0 rfl ?_
    refine mj_getI (kf := 29) C K dX5_law_38 (by decide) (by decide) rfl q1900 rfl (fun v38 => ?_)
    refine gj_icmp_ge (tgt := 68) C dX5_law_41 (by decide) rfl rfl (fun h41 => gj_neg h41 ?_) (fun h41 => gj_pos h41 ?_)
    · refine gj_aload_n C dX5_law_68 0 rfl ?_
      refine gj_aload_n C dX5_law_69 0 rfl ?_
      refine mj_getR (kf := 10) (j := 6) C K dX5_law_70 (by decide) (by decide) rfl (by decide) q1881 rfl ?_
      refine gj_iconst C dX5_law_73 ?_
      refine mj_iald (j := 6) C K dX5_law_74 (by decide) rfl (fun v74 => ?_)
      refine mj_putI (kf := 26) C K dX5_law_75 (by decide) (by decide) rfl q1897 rfl rfl (by decide +kernel) ?_
      refine gj_lload_n C dX5_law_78 1 rfl ?_
      refine gj_ldc2 (z := 1000) C dX5_law_79 q2306 (by decide) ?_
      refine gj_lmul C dX5_law_82 ?_
      refine gj_aload_n C dX5_law_83 0 rfl ?_
      refine mj_getI (kf := 29) C K dX5_law_84 (by decide) (by decide) rfl q1900 rfl (fun v84 => ?_)
      refine gj_i2l C dX5_law_87 ?_
      refine gj_nzl (fun hz88 => ?_)
      refine gj_ldiv C dX5_law_88 hz88 ?_
      refine gj_l2i C dX5_law_89 ?_
      exact mj_iret C hQ hr dX5_law_90
    · refine gj_aload_n C dX5_law_44 0 rfl ?_
      refine gj_iload C dX5_law_45 2 rfl ?_
      refine mj_callVV (As := [.int (iI a4)]) (rest := []) C K dX5_law_47 (met5_weekBy (cx_l X) g a4) (lw_V q2297 q2299 qs112 q134 q2300) hy5_weekBy hR (Nat.le_of_ble_eq_true rfl) (by decide) rfl rfl (Nat.zero_le _) ?_
      refine gj_lload_n C dX5_law_50 1 rfl ?_
      refine gj_aload_n C dX5_law_51 0 rfl ?_
      refine gj_sipush C dX5_law_52 rfl ?_
      refine gj_iconst C dX5_law_55 ?_
      refine mj_callVI (As := [.int (iI 1584), .int (iI 0)]) (rest := [.long (iL a2)]) C K dX5_law_56 (met5_allHarm (cx_l X) g 1584 0) (lw_V q2264 q2266 qs109 q134 q2267) hy5_allHarm hR (Nat.le_of_ble_eq_true rfl) (by decide) rfl rfl (Nat.le_of_ble_eq_true rfl) (fun v56 => ?_)
      refine gj_i2l C dX5_law_59 ?_
      refine gj_ladd C dX5_law_60 ?_
      refine gj_letl (fun x61 => ?_)
      refine gj_lstore_n (L' := [(2, _), (0, _), (4, _)]) C dX5_law_61 (by decide) rfl ?_
      refine gj_iinc (L' := [(4, _), (2, _), (0, _)]) C dX5_law_62 2 rfl (by decide) rfl ?_
      refine gj_goto (tgt := 35) C dX5_law_65 (by decide) ?_
      exact gj_to [2, 1, 0] (hb35 (x61, a4 + 1)) rfl
  unfold m5_law
  refine gj_aload_n C dX5_law_0 0 rfl ?_
  refine gj_iconst C dX5_law_1 ?_
  refine mj_putI (kf := 0) C K dX5_law_2 (by decide) (by decide) rfl q1871 rfl rfl (by decide +kernel) ?_
  refine gj_iload_n C dX5_law_5 1 rfl ?_
  refine gj_iconst C dX5_law_6 ?_
  refine gj_sipush C dX5_law_7 rfl ?_
  refine mj_callSI (As := [.int (iI a1), .int (iI 0), .int (iI 999)]) (rest := []) C K dX5_law_10 (met5_within (cx_l X) g a1 0 999) (lw_S q2142 q2143 q134 q2144) hy5s_within hR (Nat.le_of_ble_eq_true rfl) (by decide) rfl rfl (Nat.zero_le _) (fun v10 => ?_)
  refine gj_if_eq (tgt := 23) C dX5_law_13 (by decide) (fun h13 => gj_pos h13 ?_) (fun h13 => gj_neg h13 ?_)
  · refine gj_iconst C dX5_law_23 ?_
    exact mj_iret C hQ hr dX5_law_24
  · refine gj_aload_n C dX5_law_16 0 rfl ?_
    refine mj_getI (kf := 29) C K dX5_law_17 (by decide) (by decide) rfl q1900 rfl (fun v17 => ?_)
    refine gj_if_ne (tgt := 25) C dX5_law_20 (by decide) (fun h20 => gj_neg h20 ?_) (fun h20 => gj_pos h20 ?_)
    · refine gj_aload_n C dX5_law_25 0 rfl ?_
      refine gj_iload_n C dX5_law_26 1 rfl ?_
      refine gj_nrmI ?_
      refine mj_putI (kf := 26) C K dX5_law_27 (by decide) (by decide) rfl q1897 rfl rfl (by decide +kernel) ?_
      refine gj_lconst (z := 0) C dX5_law_30 rfl ?_
      refine gj_lstore_n (L' := [(2, _), (0, _), (1, _)]) C dX5_law_31 (by decide) rfl ?_
      refine gj_iconst C dX5_law_32 ?_
      refine gj_istore (L' := [(4, _), (2, _), (0, _), (1, _)]) C dX5_law_33 (by decide) rfl ?_
      exact gj_to [2, 1, 0] (J35 0 0) rfl
    · refine gj_iconst C dX5_law_23 ?_
      exact mj_iret C hQ hr dX5_law_24
def m5_goodOf (a1 a2 a3 : Int) : MM Int :=
  pbnd (mwr 12 5 0 (w32 a1)) fun _ =>
  pbnd (mwr 12 5 1 (w32 a2)) fun _ =>
  pbnd (mwr 12 5 2 (w32 a3)) fun _ =>
  pbnd (mrd 6 160 5) fun v26 =>
  pite (w32 v26 < 0) (
    pret (w32 (((a1 - ((a2 * 2)))) + ((a3 * 10))))) (
    pbnd (mrd 6 160 5) fun v49 =>
    pbnd (m5_worthAt v49) fun v50 =>
    pret v50)
set_option maxHeartbeats 4000000 in
set_option maxRecDepth 100000 in
theorem met5_goodOf (l : Launch) (g : MG) (a1 a2 a3 : Int) : MMet l g yX5_goodOf cX5_goodOf 4 (Option.some Jvm.ClassFile.FieldType.int) (2) [.ref (g.2.2), .int (iI a1), .int (iI a2), .int (iI a3)] (m5_goodOf a1 a2 a3) rvI := by
  refine mj_start (by decide +kernel) rfl (Nat.le_of_ble_eq_true rfl) (fun X Q hl C K hQ hR hr => ?_)
  subst hl
  show GJ X 4 (mWo g (cx_s X).heap) Q (m5_goodOf a1 a2 a3) 0 [(0, .ref (g.2.2)), (1, .int (iI a1)), (2, .int (iI a2)), (3, .int (iI a3))] []
  unfold m5_goodOf
  refine gj_aload_n C dX5_goodOf_0 0 rfl ?_
  refine mj_getR (kf := 21) (j := 12) C K dX5_goodOf_1 (by decide) (by decide) rfl (by decide) q1892 rfl ?_
  refine gj_iconst C dX5_goodOf_4 ?_
  refine gj_iload_n C dX5_goodOf_5 1 rfl ?_
  refine gj_nrmI ?_
  refine mj_iast (j := 12) C K dX5_goodOf_6 (by decide) (by decide) rfl ?_
  refine gj_aload_n C dX5_goodOf_7 0 rfl ?_
  refine mj_getR (kf := 21) (j := 12) C K dX5_goodOf_8 (by decide) (by decide) rfl (by decide) q1892 rfl ?_
  refine gj_iconst C dX5_goodOf_11 ?_
  refine gj_iload_n C dX5_goodOf_12 2 rfl ?_
  refine gj_nrmI ?_
  refine mj_iast (j := 12) C K dX5_goodOf_13 (by decide) (by decide) rfl ?_
  refine gj_aload_n C dX5_goodOf_14 0 rfl ?_
  refine mj_getR (kf := 21) (j := 12) C K dX5_goodOf_15 (by decide) (by decide) rfl (by decide) q1892 rfl ?_
  refine gj_iconst C dX5_goodOf_18 ?_
  refine gj_iload_n C dX5_goodOf_19 3 rfl ?_
  refine gj_nrmI ?_
  refine mj_iast (j := 12) C K dX5_goodOf_20 (by decide) (by decide) rfl ?_
  refine gj_aload_n C dX5_goodOf_21 0 rfl ?_
  refine mj_getR (kf := 10) (j := 6) C K dX5_goodOf_22 (by decide) (by decide) rfl (by decide) q1881 rfl ?_
  refine gj_iconst C dX5_goodOf_25 ?_
  refine mj_iald (j := 6) C K dX5_goodOf_26 (by decide) rfl (fun v26 => ?_)
  refine gj_if_ge (tgt := 43) C dX5_goodOf_27 (by decide) (fun h27 => gj_neg h27 ?_) (fun h27 => gj_pos h27 ?_)
  · refine gj_aload_n C dX5_goodOf_43 0 rfl ?_
    refine gj_aload_n C dX5_goodOf_44 0 rfl ?_
    refine mj_getR (kf := 10) (j := 6) C K dX5_goodOf_45 (by decide) (by decide) rfl (by decide) q1881 rfl ?_
    refine gj_iconst C dX5_goodOf_48 ?_
    refine mj_iald (j := 6) C K dX5_goodOf_49 (by decide) rfl (fun v49 => ?_)
    refine mj_callVI (As := [.int (iI v49)]) (rest := []) C K dX5_goodOf_50 (met5_worthAt (cx_l X) g v49) (lw_V q2237 q2239 qs104 q134 q2240) hy5_worthAt hR (Nat.le_of_ble_eq_true rfl) (by decide) rfl rfl (Nat.zero_le _) (fun v50 => ?_)
    exact mj_iret C hQ hr dX5_goodOf_53
  · refine gj_iload_n C dX5_goodOf_30 1 rfl ?_
    refine gj_iload_n C dX5_goodOf_31 2 rfl ?_
    refine gj_iconst C dX5_goodOf_32 ?_
    refine gj_imul C dX5_goodOf_33 ?_
    refine gj_isub C dX5_goodOf_34 ?_
    refine gj_iload_n C dX5_goodOf_35 3 rfl ?_
    refine gj_bipush C dX5_goodOf_36 rfl ?_
    refine gj_imul C dX5_goodOf_38 ?_
    refine gj_iadd C dX5_goodOf_39 ?_
    refine gj_goto (tgt := 53) C dX5_goodOf_40 (by decide) ?_
    refine gj_nrmI ?_
    exact mj_iret C hQ hr dX5_goodOf_53
def m5_deedsFrom_s_b62 (self : Int → Int → Int → Int → Int → Int → MM Unit) (a1 : Int) (a8 : Int) (bk62 : (Int) → MM Unit) : MM Unit :=
  pite (w32 a8 < w32 a1) (
    pbnd (mrd 18 7 a8) fun v80 =>
    pbnd (mwr 19 7 a8 v80) fun _ =>
    bk62 (a8 + 1)) (
    pret ())
def m5_deedsFrom_s_l62 (self : Int → Int → Int → Int → Int → Int → MM Unit) (a1 a8 : Int) : MM Unit :=
  ploop (fun (s : (Int)) bk62 => m5_deedsFrom_s_b62 self a1 s bk62) (a8)
def m5_deedsFrom_s_j48 (self : Int → Int → Int → Int → Int → Int → MM Unit) (a1 a7 : Int) : MM Unit :=
  pbnd (mputz 34 1) fun _ =>
  pbnd (mput 33 (w32 a7)) fun _ =>
  m5_deedsFrom_s_l62 self a1 0
def m5_deedsFrom_s (self : Int → Int → Int → Int → Int → Int → MM Unit) (a1 a2 a3 a4 a5 a6 : Int) : MM Unit :=
  pbnd (mget 35) fun v2 =>
  pite (w32 a1 = w32 v2) (
    plet (if w32 a3 < w32 a4 then 0 else a3 - a4) fun d23 =>
    pbnd (m5_goodOf d23 a5 a6) fun v27 =>
    pbnd (mget 34) fun v33 =>
    pite (w32 v33 = 0) (
      m5_deedsFrom_s_j48 self a1 v27) (
      pbnd (mget 33) fun v42 =>
      pite (w32 v42 < w32 v27) (
        m5_deedsFrom_s_j48 self a1 v27) (
        pret ()))) (
    plet (if 9999 < w32 ((a3 + a2)) then 9999 else a3 + a2) fun d107 =>
    plet (if w32 a5 < 10 then a5 else 10) fun d123 =>
    plet (if w32 a3 < w32 d123 then a3 else d123) fun d137 =>
    plet (if 4 < w32 a2 then 2 else 1) fun d151 =>
    plet (a6 + d151) fun x152 =>
    pbnd (mwr 18 7 a1 0) fun _ =>
    pbnd (self (a1 + 1) a2 d107 a4 a5 a6) fun _ =>
    pbnd (mwr 18 7 a1 1) fun _ =>
    pbnd (self (a1 + 1) a2 (a3 - d137) a4 (a5 - d137) a6) fun _ =>
    pbnd (mwr 18 7 a1 2) fun _ =>
    plet (if 9 < w32 x152 then 9 else x152) fun d236 =>
    pbnd (self (a1 + 1) a2 a3 a4 a5 d236) fun _ =>
    pret ())
set_option maxHeartbeats 4000000 in
set_option maxRecDepth 100000 in
theorem met5_deedsFrom_s (l : Launch) (g : MG) {kS : Nat} (hkS : 10 ≤ kS) {self : Int → Int → Int → Int → Int → Int → MM Unit} (hS : ∀ a1 a2 a3 a4 a5 a6 : Int, MMet l g yX5_deedsFrom cX5_deedsFrom 10 (Option.none : Option Jvm.ClassFile.FieldType) (kS) [.ref g.2.2, .int (iI a1), .int (iI a2), .int (iI a3), .int (iI a4), .int (iI a5), .int (iI a6)] (self a1 a2 a3 a4 a5 a6) rvV) (a1 a2 a3 a4 a5 a6 : Int) : MMet l g yX5_deedsFrom cX5_deedsFrom 10 (Option.none : Option Jvm.ClassFile.FieldType) (kS + 1) [.ref (g.2.2), .int (iI a1), .int (iI a2), .int (iI a3), .int (iI a4), .int (iI a5), .int (iI a6)] (m5_deedsFrom_s self a1 a2 a3 a4 a5 a6) rvV := by
  refine mj_start (by decide +kernel) rfl (Nat.le_of_ble_eq_true rfl) (fun X Q hl C K hQ hR hr => ?_)
  subst hl
  show GJ X 10 (mWo g (cx_s X).heap) Q (m5_deedsFrom_s self a1 a2 a3 a4 a5 a6) 0 [(0, .ref (g.2.2)), (1, .int (iI a1)), (2, .int (iI a2)), (3, .int (iI a3)), (4, .int (iI a4)), (5, .int (iI a5)), (6, .int (iI a6))] []
  have J62 : ∀ (a1 a8 : Int), GJ X 10 (mWo g (cx_s X).heap) Q (m5_deedsFrom_s_l62 self a1 a8) 62 [(0, .ref (g.2.2)), (1, .int (iI a1)), (8, .int (iI a8))] [] := by
    intro a1 a8
    unfold m5_deedsFrom_s_l62
    refine gj_loop (fun (s : (Int)) => [(0, .ref (g.2.2)), (1, .int (iI a1)), (8, .int (iI s))]) (a8) (fun bk62 hb62 s => ?_)
    obtain ⟨a8, rfl⟩ : ∃ z, z = s := ⟨s, rfl⟩
    show GJ X 10 (mWo g (cx_s X).heap) Q (m5_deedsFrom_s_b62 self a1 a8 bk62) 62 [(0, .ref (g.2.2)), (1, .int (iI a1)), (8, .int (iI a8))] []
    unfold m5_deedsFrom_s_b62
    refine gj_iload C dX5_deedsFrom_62 2 rfl ?_
    refine gj_iload_n C dX5_deedsFrom_64 1 rfl ?_
    refine gj_icmp_ge (tgt := 88) C dX5_deedsFrom_65 (by decide) rfl rfl (fun h65 => gj_neg h65 ?_) (fun h65 => gj_pos h65 ?_)
    · exact mj_vret C hQ hr dX5_deedsFrom_88
    · refine gj_aload_n C dX5_deedsFrom_68 0 rfl ?_
      refine mj_getR (kf := 32) (j := 19) C K dX5_deedsFrom_69 (by decide) (by decide) rfl (by decide) q1903 rfl ?_
      refine gj_iload C dX5_deedsFrom_72 2 rfl ?_
      refine gj_aload_n C dX5_deedsFrom_74 0 rfl ?_
      refine mj_getR (kf := 31) (j := 18) C K dX5_deedsFrom_75 (by decide) (by decide) rfl (by decide) q1902 rfl ?_
      refine gj_iload C dX5_deedsFrom_78 2 rfl ?_
      refine mj_iald (j := 18) C K dX5_deedsFrom_80 (by decide) rfl (fun v80 => ?_)
      refine mj_iast (j := 19) C K dX5_deedsFrom_81 (by decide) (by decide) rfl ?_
      refine gj_iinc (L' := [(8, _), (0, _), (1, _)]) C dX5_deedsFrom_82 2 rfl (by decide) rfl ?_
      refine gj_goto (tgt := 62) C dX5_deedsFrom_85 (by decide) ?_
      exact gj_to [1, 2, 0] (hb62 (a8 + 1)) rfl
  have J48 : ∀ (a1 a7 : Int), GJ X 10 (mWo g (cx_s X).heap) Q (m5_deedsFrom_s_j48 self a1 a7) 48 [(0, .ref (g.2.2)), (1, .int (iI a1)), (7, .int (iI a7))] [] := by
    intro a1 a7
    unfold m5_deedsFrom_s_j48
    refine gj_aload_n C dX5_deedsFrom_48 0 rfl ?_
    refine gj_iconst C dX5_deedsFrom_49 ?_
    refine mj_putZ (kf := 34) C K dX5_deedsFrom_50 (by decide) (by decide) rfl q1905 rfl rfl (by decide +kernel) ?_
    refine gj_aload_n C dX5_deedsFrom_53 0 rfl ?_
    refine gj_iload C dX5_deedsFrom_54 2 rfl ?_
    refine gj_nrmI ?_
    refine mj_putI (kf := 33) C K dX5_deedsFrom_56 (by decide) (by decide) rfl q1904 rfl rfl (by decide +kernel) ?_
    refine gj_iconst C dX5_deedsFrom_59 ?_
    refine gj_istore (L' := [(8, _), (0, _), (1, _), (7, _)]) C dX5_deedsFrom_60 (by decide) rfl ?_
    exact gj_to [1, 2, 0] (J62 a1 0) rfl
  unfold m5_deedsFrom_s
  refine gj_iload_n C dX5_deedsFrom_0 1 rfl ?_
  refine gj_aload_n C dX5_deedsFrom_1 0 rfl ?_
  refine mj_getI (kf := 35) C K dX5_deedsFrom_2 (by decide) (by decide) rfl q1906 rfl (fun v2 => ?_)
  refine gj_icmp_ne (tgt := 89) C dX5_deedsFrom_5 (by decide) rfl rfl (fun h5 => gj_neg h5 ?_) (fun h5 => gj_pos h5 ?_)
  · refine gj_iload_n C dX5_deedsFrom_89 3 rfl ?_
    refine gj_iload_n C dX5_deedsFrom_90 2 rfl ?_
    refine gj_iadd C dX5_deedsFrom_91 ?_
    refine gj_sipush C dX5_deedsFrom_92 rfl ?_
    refine gj_dia (J := 107) (L := [(0, .ref (g.2.2)), (1, .int (iI a1)), (2, .int (iI a2)), (3, .int (iI a3)), (4, .int (iI a4)), (5, .int (iI a5)), (6, .int (iI a6))]) (st := []) (fun d107 => ?_) (fun t hJ => ?_)
    · skip
      refine gj_istore (L' := [(7, _), (0, _), (1, _), (2, _), (3, _), (4, _), (5, _), (6, _)]) C dX5_deedsFrom_107 (by decide) rfl ?_
      refine gj_iload C dX5_deedsFrom_109 6 rfl ?_
      refine gj_bipush C dX5_deedsFrom_111 rfl ?_
      refine gj_dia (J := 123) (L := [(7, .int (iI d107)), (0, .ref (g.2.2)), (1, .int (iI a1)), (2, .int (iI a2)), (3, .int (iI a3)), (4, .int (iI a4)), (5, .int (iI a5)), (6, .int (iI a6))]) (st := []) (fun d123 => ?_) (fun t hJ => ?_)
      · skip
        refine gj_istore (L' := [(8, _), (7, _), (0, _), (1, _), (2, _), (3, _), (4, _), (5, _), (6, _)]) C dX5_deedsFrom_123 (by decide) rfl ?_
        refine gj_iload_n C dX5_deedsFrom_125 5 rfl ?_
        refine gj_iload C dX5_deedsFrom_126 0 rfl ?_
        refine gj_dia (J := 137) (L := [(8, .int (iI d123)), (7, .int (iI d107)), (0, .ref (g.2.2)), (1, .int (iI a1)), (2, .int (iI a2)), (3, .int (iI a3)), (4, .int (iI a4)), (5, .int (iI a5)), (6, .int (iI a6))]) (st := []) (fun d137 => ?_) (fun t hJ => ?_)
        · skip
          refine gj_istore (L' := [(8, _), (7, _), (0, _), (1, _), (2, _), (3, _), (4, _), (5, _), (6, _)]) C dX5_deedsFrom_137 (by decide) rfl ?_
          refine gj_iload C dX5_deedsFrom_139 8 rfl ?_
          refine gj_iload_n C dX5_deedsFrom_141 4 rfl ?_
          refine gj_iconst C dX5_deedsFrom_142 ?_
          refine gj_dia (J := 151) (L := [(8, .int (iI d137)), (7, .int (iI d107)), (0, .ref (g.2.2)), (1, .int (iI a1)), (2, .int (iI a2)), (3, .int (iI a3)), (4, .int (iI a4)), (5, .int (iI a5)), (6, .int (iI a6))]) (st := [.int (iI a6)]) (fun d151 => ?_) (fun t hJ => ?_)
          · skip
            refine gj_iadd C dX5_deedsFrom_151 ?_
            refine gj_let (fun x152 => ?_)
            refine gj_istore (L' := [(9, _), (8, _), (7, _), (0, _), (1, _), (2, _), (3, _), (4, _), (5, _), (6, _)]) C dX5_deedsFrom_152 (by decide) rfl ?_
            refine gj_aload_n C dX5_deedsFrom_154 3 rfl ?_
            refine mj_getR (kf := 31) (j := 18) C K dX5_deedsFrom_155 (by decide) (by decide) rfl (by decide) q1902 rfl ?_
            refine gj_iload_n C dX5_deedsFrom_158 4 rfl ?_
            refine gj_iconst C dX5_deedsFrom_159 ?_
            refine mj_iast (j := 18) C K dX5_deedsFrom_160 (by decide) (by decide) rfl ?_
            refine gj_aload_n C dX5_deedsFrom_161 3 rfl ?_
            refine gj_iload_n C dX5_deedsFrom_162 4 rfl ?_
            refine gj_iconst C dX5_deedsFrom_163 ?_
            refine gj_iadd C dX5_deedsFrom_164 ?_
            refine gj_iload_n C dX5_deedsFrom_165 5 rfl ?_
            refine gj_iload C dX5_deedsFrom_166 2 rfl ?_
            refine gj_iload C dX5_deedsFrom_168 7 rfl ?_
            refine gj_iload C dX5_deedsFrom_170 8 rfl ?_
            refine gj_iload C dX5_deedsFrom_172 9 rfl ?_
            refine mj_callVV (As := [.int (iI ((a1 + 1))), .int (iI a2), .int (iI d107), .int (iI a4), .int (iI a5), .int (iI a6)]) (rest := []) C K dX5_deedsFrom_174 (hS (a1 + 1) a2 d107 a4 a5 a6) (lw_V q2315 q2317 qs113 q134 q2318) hy5_deedsFrom hR (by omega) (by decide) rfl rfl (Nat.zero_le _) ?_
            refine gj_aload_n C dX5_deedsFrom_177 3 rfl ?_
            refine mj_getR (kf := 31) (j := 18) C K dX5_deedsFrom_178 (by decide) (by decide) rfl (by decide) q1902 rfl ?_
            refine gj_iload_n C dX5_deedsFrom_181 4 rfl ?_
            refine gj_iconst C dX5_deedsFrom_182 ?_
            refine mj_iast (j := 18) C K dX5_deedsFrom_183 (by decide) (by decide) rfl ?_
            refine gj_aload_n C dX5_deedsFrom_184 3 rfl ?_
            refine gj_iload_n C dX5_deedsFrom_185 4 rfl ?_
            refine gj_iconst C dX5_deedsFrom_186 ?_
            refine gj_iadd C dX5_deedsFrom_187 ?_
            refine gj_iload_n C dX5_deedsFrom_188 5 rfl ?_
            refine gj_iload_n C dX5_deedsFrom_189 6 rfl ?_
            refine gj_iload C dX5_deedsFrom_190 1 rfl ?_
            refine gj_isub C dX5_deedsFrom_192 ?_
            refine gj_iload C dX5_deedsFrom_193 7 rfl ?_
            refine gj_iload C dX5_deedsFrom_195 8 rfl ?_
            refine gj_iload C dX5_deedsFrom_197 1 rfl ?_
            refine gj_isub C dX5_deedsFrom_199 ?_
            refine gj_iload C dX5_deedsFrom_200 9 rfl ?_
            refine mj_callVV (As := [.int (iI ((a1 + 1))), .int (iI a2), .int (iI ((a3 - d137))), .int (iI a4), .int (iI ((a5 - d137))), .int (iI a6)]) (rest := []) C K dX5_deedsFrom_202 (hS (a1 + 1) a2 (a3 - d137) a4 (a5 - d137) a6) (lw_V q2315 q2317 qs113 q134 q2318) hy5_deedsFrom hR (by omega) (by decide) rfl rfl (Nat.zero_le _) ?_
            refine gj_aload_n C dX5_deedsFrom_205 3 rfl ?_
            refine mj_getR (kf := 31) (j := 18) C K dX5_deedsFrom_206 (by decide) (by decide) rfl (by decide) q1902 rfl ?_
            refine gj_iload_n C dX5_deedsFrom_209 4 rfl ?_
            refine gj_iconst C dX5_deedsFrom_210 ?_
            refine mj_iast (j := 18) C K dX5_deedsFrom_211 (by decide) (by decide) rfl ?_
            refine gj_aload_n C dX5_deedsFrom_212 3 rfl ?_
            refine gj_iload_n C dX5_deedsFrom_213 4 rfl ?_
            refine gj_iconst C dX5_deedsFrom_214 ?_
            refine gj_iadd C dX5_deedsFrom_215 ?_
            refine gj_iload_n C dX5_deedsFrom_216 5 rfl ?_
            refine gj_iload_n C dX5_deedsFrom_217 6 rfl ?_
            refine gj_iload C dX5_deedsFrom_218 7 rfl ?_
            refine gj_iload C dX5_deedsFrom_220 8 rfl ?_
            refine gj_iload C dX5_deedsFrom_222 0 rfl ?_
            refine gj_bipush C dX5_deedsFrom_224 rfl ?_
            refine gj_dia (J := 236) (L := [(9, .int (iI x152)), (8, .int (iI d137)), (7, .int (iI d107)), (0, .ref (g.2.2)), (1, .int (iI a1)), (2, .int (iI a2)), (3, .int (iI a3)), (4, .int (iI a4)), (5, .int (iI a5)), (6, .int (iI a6))]) (st := [.int (iI a5), .int (iI a4), .int (iI a3), .int (iI a2), .int (iI ((a1 + 1))), .ref (g.2.2)]) (fun d236 => ?_) (fun t hJ => ?_)
            · skip
              refine mj_callVV (As := [.int (iI ((a1 + 1))), .int (iI a2), .int (iI a3), .int (iI a4), .int (iI a5), .int (iI d236)]) (rest := []) C K dX5_deedsFrom_236 (hS (a1 + 1) a2 a3 a4 a5 d236) (lw_V q2315 q2317 qs113 q134 q2318) hy5_deedsFrom hR (by omega) (by decide) rfl rfl (Nat.zero_le _) ?_
              exact mj_vret C hQ hr dX5_deedsFrom_239
            · refine gj_icmp_le (tgt := 234) (b' := 9) C dX5_deedsFrom_226 (by decide) rfl (by decide) (fun h226 => ?_) (fun h226 => ?_)
              · refine gj_iload C dX5_deedsFrom_234 0 rfl ?_
                exact (by rw [if_neg h226] at hJ; exact hJ)
              · refine gj_bipush C dX5_deedsFrom_229 rfl ?_
                refine gj_goto (tgt := 236) C dX5_deedsFrom_231 (by decide) ?_
                exact (by rw [if_pos h226] at hJ; exact hJ)
          · refine gj_icmp_le (tgt := 150) (b' := 4) C dX5_deedsFrom_143 (by decide) rfl (by decide) (fun h143 => ?_) (fun h143 => ?_)
            · refine gj_iconst C dX5_deedsFrom_150 ?_
              exact (by rw [if_neg h143] at hJ; exact hJ)
            · refine gj_iconst C dX5_deedsFrom_146 ?_
              refine gj_goto (tgt := 151) C dX5_deedsFrom_147 (by decide) ?_
              exact (by rw [if_pos h143] at hJ; exact hJ)
        · refine gj_icmp_ge (tgt := 135) C dX5_deedsFrom_128 (by decide) rfl rfl (fun h128 => ?_) (fun h128 => ?_)
          · refine gj_iload C dX5_deedsFrom_135 0 rfl ?_
            exact (by rw [if_neg h128] at hJ; exact hJ)
          · refine gj_iload_n C dX5_deedsFrom_131 5 rfl ?_
            refine gj_goto (tgt := 137) C dX5_deedsFrom_132 (by decide) ?_
            exact (by rw [if_pos h128] at hJ; exact hJ)
      · refine gj_icmp_ge (tgt := 121) (b' := 10) C dX5_deedsFrom_113 (by decide) rfl (by decide) (fun h113 => ?_) (fun h113 => ?_)
        · refine gj_bipush C dX5_deedsFrom_121 rfl ?_
          exact (by rw [if_neg h113] at hJ; exact hJ)
        · refine gj_iload C dX5_deedsFrom_116 6 rfl ?_
          refine gj_goto (tgt := 123) C dX5_deedsFrom_118 (by decide) ?_
          exact (by rw [if_pos h113] at hJ; exact hJ)
    · refine gj_icmp_le (tgt := 104) (b' := 9999) C dX5_deedsFrom_95 (by decide) rfl (by decide) (fun h95 => ?_) (fun h95 => ?_)
      · refine gj_iload_n C dX5_deedsFrom_104 3 rfl ?_
        refine gj_iload_n C dX5_deedsFrom_105 2 rfl ?_
        refine gj_iadd C dX5_deedsFrom_106 ?_
        exact (by rw [if_neg h95] at hJ; exact hJ)
      · refine gj_sipush C dX5_deedsFrom_98 rfl ?_
        refine gj_goto (tgt := 107) C dX5_deedsFrom_101 (by decide) ?_
        exact (by rw [if_pos h95] at hJ; exact hJ)
  · refine gj_aload_n C dX5_deedsFrom_8 0 rfl ?_
    refine gj_iload_n C dX5_deedsFrom_9 3 rfl ?_
    refine gj_iload C dX5_deedsFrom_10 4 rfl ?_
    refine gj_dia (J := 23) (L := [(0, .ref (g.2.2)), (1, .int (iI a1)), (2, .int (iI a2)), (3, .int (iI a3)), (4, .int (iI a4)), (5, .int (iI a5)), (6, .int (iI a6))]) (st := [.ref (g.2.2)]) (fun d23 => ?_) (fun t hJ => ?_)
    · skip
      refine gj_iload C dX5_deedsFrom_23 5 rfl ?_
      refine gj_iload C dX5_deedsFrom_25 6 rfl ?_
      refine mj_callVI (As := [.int (iI d23), .int (iI a5), .int (iI a6)]) (rest := []) C K dX5_deedsFrom_27 (met5_goodOf (cx_l X) g d23 a5 a6) (lw_V q2319 q2321 qs114 q134 q2322) hy5_goodOf hR (by omega) (by decide) rfl rfl (Nat.zero_le _) (fun v27 => ?_)
      refine gj_istore (L' := [(7, _), (0, _), (1, _), (2, _), (3, _), (4, _), (5, _), (6, _)]) C dX5_deedsFrom_30 (by decide) rfl ?_
      refine gj_aload_n C dX5_deedsFrom_32 1 rfl ?_
      refine mj_getI (kf := 34) C K dX5_deedsFrom_33 (by decide) (by decide) rfl q1905 rfl (fun v33 => ?_)
      refine gj_if_eq (tgt := 48) C dX5_deedsFrom_36 (by decide) (fun h36 => gj_pos h36 ?_) (fun h36 => gj_neg h36 ?_)
      · exact gj_to [1, 2, 0] (J48 a1 v27) rfl
      · refine gj_iload C dX5_deedsFrom_39 0 rfl ?_
        refine gj_aload_n C dX5_deedsFrom_41 1 rfl ?_
        refine mj_getI (kf := 33) C K dX5_deedsFrom_42 (by decide) (by decide) rfl q1904 rfl (fun v42 => ?_)
        refine gj_icmp_le (tgt := 88) C dX5_deedsFrom_45 (by decide) rfl rfl (fun h45 => gj_neg h45 ?_) (fun h45 => gj_pos h45 ?_)
        · exact mj_vret C hQ hr dX5_deedsFrom_88
        · exact gj_to [1, 2, 0] (J48 a1 v27) rfl
    · refine gj_icmp_ge (tgt := 19) C dX5_deedsFrom_12 (by decide) rfl rfl (fun h12 => ?_) (fun h12 => ?_)
      · refine gj_iload_n C dX5_deedsFrom_19 3 rfl ?_
        refine gj_iload C dX5_deedsFrom_20 4 rfl ?_
        refine gj_isub C dX5_deedsFrom_22 ?_
        exact (by rw [if_neg h12] at hJ; exact hJ)
      · refine gj_iconst C dX5_deedsFrom_15 ?_
        refine gj_goto (tgt := 23) C dX5_deedsFrom_16 (by decide) ?_
        exact (by rw [if_pos h12] at hJ; exact hJ)
def m5_deedsFrom : Nat → Int → Int → Int → Int → Int → Int → MM Unit
  | 0, _, _, _, _, _, _ => pfail
  | n + 1, a1, a2, a3, a4, a5, a6 => m5_deedsFrom_s (m5_deedsFrom n) a1 a2 a3 a4 a5 a6
theorem met5_deedsFrom (l : Launch) (g : MG) : ∀ (n : Nat) (a1 a2 a3 a4 a5 a6 : Int), MMet l g yX5_deedsFrom cX5_deedsFrom 10 (Option.none : Option Jvm.ClassFile.FieldType) (10 + n) [.ref g.2.2, .int (iI a1), .int (iI a2), .int (iI a3), .int (iI a4), .int (iI a5), .int (iI a6)] (m5_deedsFrom n a1 a2 a3 a4 a5 a6) rvV := by
  intro n
  induction n with
  | zero => intro a1 a2 a3 a4 a5 a6 Q σ h; exact h.elim
  | succ n ih => intro a1 a2 a3 a4 a5 a6; exact met5_deedsFrom_s l g (by omega) ih a1 a2 a3 a4 a5 a6
def m5_deeds_j44 (a1 a2 a3 a4 s1 : Int) : MM Int :=
  pbnd (mput 0 (w32 s1)) fun _ =>
  pbnd (mget 0) fun v48 =>
  pite (0 < w32 v48) (
    pret 0) (
    pbnd (mput 35 (w32 a3)) fun _ =>
    pbnd (mputz 34 0) fun _ =>
    pbnd (m5_personOf a1 1) fun v71 =>
    pbnd (mrd 14 1656 (4 + a2)) fun v81 =>
    pbnd (mrd 14 1656 (22 + a2)) fun v90 =>
    pbnd (mrd 14 1656 (10 + a2)) fun v99 =>
    pbnd (mrd 14 1656 (16 + a2)) fun v108 =>
    pbnd (m5_deedsFrom 10 0 v71 v81 v90 v99 v108) fun _ =>
    pite (w32 a4 < 0) (
      pbnd (mget 33) fun v118 =>
      pret v118) (
      pbnd (mrd 19 7 a4) fun v130 =>
      pret v130))
def m5_deeds_j43 (a1 a2 a3 a4 : Int) : MM Int :=
  m5_deeds_j44 a1 a2 a3 a4 1
def m5_deeds (a1 a2 a3 a4 : Int) : MM Int :=
  pbnd (m5_isPerson a1) fun v3 =>
  pite (w32 v3 = 0) (
    m5_deeds_j43 a1 a2 a3 a4) (
    pbnd (m5_isPerson a2) fun v11 =>
    pite (w32 v11 = 0) (
      m5_deeds_j43 a1 a2 a3 a4) (
      pbnd (m5_within a3 1 7) fun v21 =>
      pite (w32 v21 = 0) (
        m5_deeds_j43 a1 a2 a3 a4) (
        pbnd (m5_within a4 (-1) (a3 - 1)) fun v33 =>
        pite (w32 v33 = 0) (
          m5_deeds_j43 a1 a2 a3 a4) (
          m5_deeds_j44 a1 a2 a3 a4 0))))
set_option maxHeartbeats 4000000 in
set_option maxRecDepth 100000 in
theorem met5_deeds (l : Launch) (g : MG) (a1 a2 a3 a4 : Int) : MMet l g yX5_deeds cX5_deeds 5 (Option.some Jvm.ClassFile.FieldType.int) (21) [.ref (g.2.2), .int (iI a1), .int (iI a2), .int (iI a3), .int (iI a4)] (m5_deeds a1 a2 a3 a4) rvI := by
  refine mj_start (by decide +kernel) rfl (Nat.le_of_ble_eq_true rfl) (fun X Q hl C K hQ hR hr => ?_)
  subst hl
  show GJ X 5 (mWo g (cx_s X).heap) Q (m5_deeds a1 a2 a3 a4) 0 [(0, .ref (g.2.2)), (1, .int (iI a1)), (2, .int (iI a2)), (3, .int (iI a3)), (4, .int (iI a4))] []
  have J44 : ∀ (a1 a2 a3 a4 s1 : Int), GJ X 5 (mWo g (cx_s X).heap) Q (m5_deeds_j44 a1 a2 a3 a4 s1) 44 [(0, .ref (g.2.2)), (1, .int (iI a1)), (2, .int (iI a2)), (3, .int (iI a3)), (4, .int (iI a4))] [.int (iI s1), .ref (g.2.2)] := by
    intro a1 a2 a3 a4 s1
    unfold m5_deeds_j44
    refine gj_nrmI ?_
    refine mj_putI (kf := 0) C K dX5_deeds_44 (by decide) (by decide) rfl q1871 rfl rfl (by decide +kernel) ?_
    refine gj_aload_n C dX5_deeds_47 0 rfl ?_
    refine mj_getI (kf := 0) C K dX5_deeds_48 (by decide) (by decide) rfl q1871 rfl (fun v48 => ?_)
    refine gj_if_le (tgt := 56) C dX5_deeds_51 (by decide) (fun h51 => gj_neg h51 ?_) (fun h51 => gj_pos h51 ?_)
    · refine gj_aload_n C dX5_deeds_56 0 rfl ?_
      refine gj_iload_n C dX5_deeds_57 3 rfl ?_
      refine gj_nrmI ?_
      refine mj_putI (kf := 35) C K dX5_deeds_58 (by decide) (by decide) rfl q1906 rfl rfl (by decide +kernel) ?_
      refine gj_aload_n C dX5_deeds_61 0 rfl ?_
      refine gj_iconst C dX5_deeds_62 ?_
      refine mj_putZ (kf := 34) C K dX5_deeds_63 (by decide) (by decide) rfl q1905 rfl rfl (by decide +kernel) ?_
      refine gj_aload_n C dX5_deeds_66 0 rfl ?_
      refine gj_iconst C dX5_deeds_67 ?_
      refine gj_aload_n C dX5_deeds_68 0 rfl ?_
      refine gj_iload_n C dX5_deeds_69 1 rfl ?_
      refine gj_iconst C dX5_deeds_70 ?_
      refine mj_callVI (As := [.int (iI a1), .int (iI 1)]) (rest := [.int (iI 0), .ref (g.2.2)]) C K dX5_deeds_71 (met5_personOf (cx_l X) g a1 1) (lw_V q1855 q1857 qs56 q134 q1858) hy5_personOf hR (Nat.le_of_ble_eq_true rfl) (by decide) rfl rfl (Nat.le_of_ble_eq_true rfl) (fun v71 => ?_)
      refine gj_aload_n C dX5_deeds_74 0 rfl ?_
      refine mj_getR (kf := 23) (j := 14) C K dX5_deeds_75 (by decide) (by decide) rfl (by decide) q1894 rfl ?_
      refine gj_iconst C dX5_deeds_78 ?_
      refine gj_iload_n C dX5_deeds_79 2 rfl ?_
      refine gj_iadd C dX5_deeds_80 ?_
      refine mj_iald (j := 14) C K dX5_deeds_81 (by decide) rfl (fun v81 => ?_)
      refine gj_aload_n C dX5_deeds_82 0 rfl ?_
      refine mj_getR (kf := 23) (j := 14) C K dX5_deeds_83 (by decide) (by decide) rfl (by decide) q1894 rfl ?_
      refine gj_bipush C dX5_deeds_86 rfl ?_
      refine gj_iload_n C dX5_deeds_88 2 rfl ?_
      refine gj_iadd C dX5_deeds_89 ?_
      refine mj_iald (j := 14) C K dX5_deeds_90 (by decide) rfl (fun v90 => ?_)
      refine gj_aload_n C dX5_deeds_91 0 rfl ?_
      refine mj_getR (kf := 23) (j := 14) C K dX5_deeds_92 (by decide) (by decide) rfl (by decide) q1894 rfl ?_
      refine gj_bipush C dX5_deeds_95 rfl ?_
      refine gj_iload_n C dX5_deeds_97 2 rfl ?_
      refine gj_iadd C dX5_deeds_98 ?_
      refine mj_iald (j := 14) C K dX5_deeds_99 (by decide) rfl (fun v99 => ?_)
      refine gj_aload_n C dX5_deeds_100 0 rfl ?_
      refine mj_getR (kf := 23) (j := 14) C K dX5_deeds_101 (by decide) (by decide) rfl (by decide) q1894 rfl ?_
      refine gj_bipush C dX5_deeds_104 rfl ?_
      refine gj_iload_n C dX5_deeds_106 2 rfl ?_
      refine gj_iadd C dX5_deeds_107 ?_
      refine mj_iald (j := 14) C K dX5_deeds_108 (by decide) rfl (fun v108 => ?_)
      refine mj_callVV (As := [.int (iI 0), .int (iI v71), .int (iI v81), .int (iI v90), .int (iI v99), .int (iI v108)]) (rest := []) C K dX5_deeds_109 (met5_deedsFrom (cx_l X) g 10 0 v71 v81 v90 v99 v108) (lw_V q2315 q2317 qs113 q134 q2318) hy5_deedsFrom hR (Nat.le_of_ble_eq_true rfl) (by decide) rfl rfl (Nat.zero_le _) ?_
      refine gj_iload C dX5_deeds_112 4 rfl ?_
      refine gj_if_ge (tgt := 124) C dX5_deeds_114 (by decide) (fun h114 => gj_neg h114 ?_) (fun h114 => gj_pos h114 ?_)
      · refine gj_aload_n C dX5_deeds_124 0 rfl ?_
        refine mj_getR (kf := 32) (j := 19) C K dX5_deeds_125 (by decide) (by decide) rfl (by decide) q1903 rfl ?_
        refine gj_iload C dX5_deeds_128 4 rfl ?_
        refine mj_iald (j := 19) C K dX5_deeds_130 (by decide) rfl (fun v130 => ?_)
        exact mj_iret C hQ hr dX5_deeds_131
      · refine gj_aload_n C dX5_deeds_117 0 rfl ?_
        refine mj_getI (kf := 33) C K dX5_deeds_118 (by decide) (by decide) rfl q1904 rfl (fun v118 => ?_)
        refine gj_goto (tgt := 131) C dX5_deeds_121 (by decide) ?_
        exact mj_iret C hQ hr dX5_deeds_131
    · refine gj_iconst C dX5_deeds_54 ?_
      exact mj_iret C hQ hr dX5_deeds_55
  have J43 : ∀ (a1 a2 a3 a4 : Int), GJ X 5 (mWo g (cx_s X).heap) Q (m5_deeds_j43 a1 a2 a3 a4) 43 [(0, .ref (g.2.2)), (1, .int (iI a1)), (2, .int (iI a2)), (3, .int (iI a3)), (4, .int (iI a4))] [.ref (g.2.2)] := by
    intro a1 a2 a3 a4
    unfold m5_deeds_j43
    refine gj_iconst C dX5_deeds_43 ?_
    exact gj_to [0, 1, 2, 3, 4] (J44 a1 a2 a3 a4 1) rfl
  unfold m5_deeds
  refine gj_aload_n C dX5_deeds_0 0 rfl ?_
  refine gj_aload_n C dX5_deeds_1 0 rfl ?_
  refine gj_iload_n C dX5_deeds_2 1 rfl ?_
  refine mj_callVI (As := [.int (iI a1)]) (rest := [.ref (g.2.2)]) C K dX5_deeds_3 (met5_isPerson (cx_l X) g a1) (lw_V q2138 q2140 qs87 q134 q2141) hy5_isPerson hR (Nat.le_of_ble_eq_true rfl) (by decide) rfl rfl (Nat.le_of_ble_eq_true rfl) (fun v3 => ?_)
  refine gj_if_eq (tgt := 43) C dX5_deeds_6 (by decide) (fun h6 => gj_pos h6 ?_) (fun h6 => gj_neg h6 ?_)
  · exact gj_to [0, 1, 2, 3, 4] (J43 a1 a2 a3 a4) rfl
  · refine gj_aload_n C dX5_deeds_9 0 rfl ?_
    refine gj_iload_n C dX5_deeds_10 2 rfl ?_
    refine mj_callVI (As := [.int (iI a2)]) (rest := [.ref (g.2.2)]) C K dX5_deeds_11 (met5_isPerson (cx_l X) g a2) (lw_V q2138 q2140 qs87 q134 q2141) hy5_isPerson hR (Nat.le_of_ble_eq_true rfl) (by decide) rfl rfl (Nat.le_of_ble_eq_true rfl) (fun v11 => ?_)
    refine gj_if_eq (tgt := 43) C dX5_deeds_14 (by decide) (fun h14 => gj_pos h14 ?_) (fun h14 => gj_neg h14 ?_)
    · exact gj_to [0, 1, 2, 3, 4] (J43 a1 a2 a3 a4) rfl
    · refine gj_iload_n C dX5_deeds_17 3 rfl ?_
      refine gj_iconst C dX5_deeds_18 ?_
      refine gj_bipush C dX5_deeds_19 rfl ?_
      refine mj_callSI (As := [.int (iI a3), .int (iI 1), .int (iI 7)]) (rest := [.ref (g.2.2)]) C K dX5_deeds_21 (met5_within (cx_l X) g a3 1 7) (lw_S q2142 q2143 q134 q2144) hy5s_within hR (Nat.le_of_ble_eq_true rfl) (by decide) rfl rfl (Nat.le_of_ble_eq_true rfl) (fun v21 => ?_)
      refine gj_if_eq (tgt := 43) C dX5_deeds_24 (by decide) (fun h24 => gj_pos h24 ?_) (fun h24 => gj_neg h24 ?_)
      · exact gj_to [0, 1, 2, 3, 4] (J43 a1 a2 a3 a4) rfl
      · refine gj_iload C dX5_deeds_27 4 rfl ?_
        refine gj_iconst C dX5_deeds_29 ?_
        refine gj_iload_n C dX5_deeds_30 3 rfl ?_
        refine gj_iconst C dX5_deeds_31 ?_
        refine gj_isub C dX5_deeds_32 ?_
        refine mj_callSI (As := [.int (iI a4), .int (iI (-1)), .int (iI ((a3 - 1)))]) (rest := [.ref (g.2.2)]) C K dX5_deeds_33 (met5_within (cx_l X) g a4 (-1) (a3 - 1)) (lw_S q2142 q2143 q134 q2144) hy5s_within hR (Nat.le_of_ble_eq_true rfl) (by decide) rfl rfl (Nat.le_of_ble_eq_true rfl) (fun v33 => ?_)
        refine gj_if_eq (tgt := 43) C dX5_deeds_36 (by decide) (fun h36 => gj_pos h36 ?_) (fun h36 => gj_neg h36 ?_)
        · exact gj_to [0, 1, 2, 3, 4] (J43 a1 a2 a3 a4) rfl
        · refine gj_iconst C dX5_deeds_39 ?_
          refine gj_goto (tgt := 44) C dX5_deeds_40 (by decide) ?_
          exact gj_to [0, 1, 2, 3, 4] (J44 a1 a2 a3 a4 0) rfl
