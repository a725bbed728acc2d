/-! THE MODEL: its methods as pure programs, and that the machine runs so (hidesByDraw, pursesOf, years, mark, debtsOf, count): printed by gen.py -/
def m5_hidesByDraw_j67 (a1 s1 s2 : Int) (bk2 : (Int) → MM Unit) : MM Unit :=
  pbnd (mwr 14 1656 s1 (w32 s2)) fun _ =>
  bk2 (a1 + 1)
def m5_hidesByDraw_j38 (a1 s0 : Int) (bk2 : (Int) → MM Unit) : MM Unit :=
  pite (w32 s0 = 0) (
    pbnd (mrd 14 1656 (1606 + a1)) fun v66 =>
    m5_hidesByDraw_j67 a1 (1606 + a1) v66 bk2) (
    m5_hidesByDraw_j67 a1 (1606 + a1) 20 bk2)
def m5_hidesByDraw_j37 (a1 : Int) (bk2 : (Int) → MM Unit) : MM Unit :=
  m5_hidesByDraw_j38 a1 0 bk2
def m5_hidesByDraw_b2 (a1 : Int) (bk2 : (Int) → MM Unit) : MM Unit :=
  pbnd (m5_people) fun v4 =>
  pite (w32 a1 < w32 v4) (
    pbnd (m5_draw 3) fun v12 =>
    pite (w32 v12 = 0) (
      pbnd (mrd 14 1656 (1588 + a1)) fun v27 =>
      pite (w32 v27 < 20) (
        m5_hidesByDraw_j37 a1 bk2) (
        m5_hidesByDraw_j38 a1 1 bk2)) (
      m5_hidesByDraw_j37 a1 bk2)) (
    pret ())
def m5_hidesByDraw_l2 (a1 : Int) : MM Unit :=
  ploop (fun (s : (Int)) bk2 => m5_hidesByDraw_b2 s bk2) (a1)
def m5_hidesByDraw : MM Unit :=
  m5_hidesByDraw_l2 0
set_option maxHeartbeats 4000000 in
set_option maxRecDepth 100000 in
theorem met5_hidesByDraw (l : Launch) (g : MG) : MMet l g yX5_hidesByDraw cX5_hidesByDraw 3 (Option.none : Option Jvm.ClassFile.FieldType) (1) [.ref (g.2.2)] (m5_hidesByDraw) rvV := by
  refine mj_start (by decide +kernel) rfl (Nat.le_of_ble_eq_true rfl) (fun X Q hl C K hQ hR hr => ?_)
  subst hl
  show GJ X 3 (mWo g (cx_s X).heap) Q (m5_hidesByDraw) 0 [(0, .ref (g.2.2))] []
  have J2 : ∀ (a1 : Int), GJ X 3 (mWo g (cx_s X).heap) Q (m5_hidesByDraw_l2 a1) 2 [(0, .ref (g.2.2)), (1, .int (iI a1))] [] := by
    intro a1
    unfold m5_hidesByDraw_l2
    refine gj_loop (fun (s : (Int)) => [(0, .ref (g.2.2)), (1, .int (iI s))]) (a1) (fun bk2 hb2 s => ?_)
    obtain ⟨a1, rfl⟩ : ∃ z, z = s := ⟨s, rfl⟩
    show GJ X 3 (mWo g (cx_s X).heap) Q (m5_hidesByDraw_b2 a1 bk2) 2 [(0, .ref (g.2.2)), (1, .int (iI a1))] []
    have J67 : ∀ (a1 s1 s2 : Int), GJ X 3 (mWo g (cx_s X).heap) Q (m5_hidesByDraw_j67 a1 s1 s2 bk2) 67 [(0, .ref (g.2.2)), (1, .int (iI a1))] [.int (iI s2), .int (iI s1), .ref (g.2.2 + 14)] := by
      intro a1 s1 s2
      unfold m5_hidesByDraw_j67
      refine gj_nrmI ?_
      refine mj_iast (j := 14) C K dX5_hidesByDraw_67 (by decide) (by decide) rfl ?_
      refine gj_iinc (L' := [(1, _), (0, _)]) C dX5_hidesByDraw_68 1 rfl (by decide) rfl ?_
      refine gj_goto (tgt := 2) C dX5_hidesByDraw_71 (by decide) ?_
      exact gj_to [1, 0] (hb2 (a1 + 1)) rfl
    have J38 : ∀ (a1 s0 : Int), GJ X 3 (mWo g (cx_s X).heap) Q (m5_hidesByDraw_j38 a1 s0 bk2) 38 [(0, .ref (g.2.2)), (1, .int (iI a1))] [.int (iI s0)] := by
      intro a1 s0
      unfold m5_hidesByDraw_j38
      refine gj_istore_n (L' := [(2, _), (0, _), (1, _)]) C dX5_hidesByDraw_38 (by decide) rfl ?_
      refine gj_aload_n C dX5_hidesByDraw_39 1 rfl ?_
      refine mj_getR (kf := 23) (j := 14) C K dX5_hidesByDraw_40 (by decide) (by decide) rfl (by decide) q1894 rfl ?_
      refine gj_sipush C dX5_hidesByDraw_43 rfl ?_
      refine gj_iload_n C dX5_hidesByDraw_46 2 rfl ?_
      refine gj_iadd C dX5_hidesByDraw_47 ?_
      refine gj_iload_n C dX5_hidesByDraw_48 0 rfl ?_
      refine gj_if_eq (tgt := 57) C dX5_hidesByDraw_49 (by decide) (fun h49 => gj_pos h49 ?_) (fun h49 => gj_neg h49 ?_)
      · refine gj_aload_n C dX5_hidesByDraw_57 1 rfl ?_
        refine mj_getR (kf := 23) (j := 14) C K dX5_hidesByDraw_58 (by decide) (by decide) rfl (by decide) q1894 rfl ?_
        refine gj_sipush C dX5_hidesByDraw_61 rfl ?_
        refine gj_iload_n C dX5_hidesByDraw_64 2 rfl ?_
        refine gj_iadd C dX5_hidesByDraw_65 ?_
        refine mj_iald (j := 14) C K dX5_hidesByDraw_66 (by decide) rfl (fun v66 => ?_)
        exact gj_to [1, 2] (J67 a1 (1606 + a1) v66) rfl
      · refine gj_bipush C dX5_hidesByDraw_52 rfl ?_
        refine gj_goto (tgt := 67) C dX5_hidesByDraw_54 (by decide) ?_
        exact gj_to [1, 2] (J67 a1 (1606 + a1) 20) rfl
    have J37 : ∀ (a1 : Int), GJ X 3 (mWo g (cx_s X).heap) Q (m5_hidesByDraw_j37 a1 bk2) 37 [(0, .ref (g.2.2)), (1, .int (iI a1))] [] := by
      intro a1
      unfold m5_hidesByDraw_j37
      refine gj_iconst C dX5_hidesByDraw_37 ?_
      exact gj_to [0, 1] (J38 a1 0) rfl
    unfold m5_hidesByDraw_b2
    refine gj_iload_n C dX5_hidesByDraw_2 1 rfl ?_
    refine gj_aload_n C dX5_hidesByDraw_3 0 rfl ?_
    refine mj_callVI (As := []) (rest := [.int (iI a1)]) C K dX5_hidesByDraw_4 (met5_people (cx_l X) g) (lw_V q1851 q1853 qs55 q134 q1854) hy5_people hR (Nat.le_of_ble_eq_true rfl) (by decide) rfl rfl (Nat.le_of_ble_eq_true rfl) (fun v4 => ?_)
    refine gj_icmp_ge (tgt := 74) C dX5_hidesByDraw_7 (by decide) rfl rfl (fun h7 => gj_neg h7 ?_) (fun h7 => gj_pos h7 ?_)
    · exact mj_vret C hQ hr dX5_hidesByDraw_74
    · refine gj_aload_n C dX5_hidesByDraw_10 0 rfl ?_
      refine gj_iconst C dX5_hidesByDraw_11 ?_
      refine mj_callVI (As := [.int (iI 3)]) (rest := []) C K dX5_hidesByDraw_12 (met5_draw (cx_l X) g 3) (lw_V q2181 q2183 qs93 q134 q2184) hy5_draw hR (Nat.le_of_ble_eq_true rfl) (by decide) rfl rfl (Nat.zero_le _) (fun v12 => ?_)
      refine gj_if_ne (tgt := 37) C dX5_hidesByDraw_15 (by decide) (fun h15 => gj_neg h15 ?_) (fun h15 => gj_pos h15 ?_)
      · exact gj_to [0, 1] (J37 a1) rfl
      · refine gj_aload_n C dX5_hidesByDraw_18 0 rfl ?_
        refine mj_getR (kf := 23) (j := 14) C K dX5_hidesByDraw_19 (by decide) (by decide) rfl (by decide) q1894 rfl ?_
        refine gj_sipush C dX5_hidesByDraw_22 rfl ?_
        refine gj_iload_n C dX5_hidesByDraw_25 1 rfl ?_
        refine gj_iadd C dX5_hidesByDraw_26 ?_
        refine mj_iald (j := 14) C K dX5_hidesByDraw_27 (by decide) rfl (fun v27 => ?_)
        refine gj_bipush C dX5_hidesByDraw_28 rfl ?_
        refine gj_icmp_lt (tgt := 37) (b' := 20) C dX5_hidesByDraw_30 (by decide) rfl (by decide) (fun h30 => gj_pos h30 ?_) (fun h30 => gj_neg h30 ?_)
        · exact gj_to [0, 1] (J37 a1) rfl
        · refine gj_iconst C dX5_hidesByDraw_33 ?_
          refine gj_goto (tgt := 38) C dX5_hidesByDraw_34 (by decide) ?_
          exact gj_to [0, 1] (J38 a1 1) rfl
  unfold m5_hidesByDraw
  refine gj_iconst C dX5_hidesByDraw_0 ?_
  refine gj_istore_n (L' := [(1, _), (0, _)]) C dX5_hidesByDraw_1 (by decide) rfl ?_
  exact gj_to [1, 0] (J2 0) rfl
def m5_pursesOf_b4 (a1 : Int) (a2 a3 : Int) (bk4 : (Int × Int) → MM Int) : MM Int :=
  pbnd (m5_people) fun v6 =>
  pite (w32 a3 < w32 v6) (
    pbnd (mrd 14 1656 (((a1 + 4)) + a3)) fun v22 =>
    plet (a2 + v22) fun x24 =>
    bk4 (x24, a3 + 1)) (
    pret (w32 a2))
def m5_pursesOf_l4 (a1 a2 a3 : Int) : MM Int :=
  ploop (fun (s : (Int × Int)) bk4 => m5_pursesOf_b4 a1 s.1 s.2 bk4) (a2, a3)
def m5_pursesOf (a1 : Int) : MM Int :=
  m5_pursesOf_l4 a1 0 0
set_option maxHeartbeats 4000000 in
set_option maxRecDepth 100000 in
theorem met5_pursesOf (l : Launch) (g : MG) (a1 : Int) : MMet l g yX5_pursesOf cX5_pursesOf 4 (Option.some Jvm.ClassFile.FieldType.int) (1) [.ref (g.2.2), .int (iI a1)] (m5_pursesOf a1) rvI := by
  refine mj_start (by decide +kernel) rfl (Nat.le_of_ble_eq_true rfl) (fun X Q hl C K hQ hR hr => ?_)
  subst hl
  show GJ X 4 (mWo g (cx_s X).heap) Q (m5_pursesOf a1) 0 [(0, .ref (g.2.2)), (1, .int (iI a1))] []
  have J4 : ∀ (a1 a2 a3 : Int), GJ X 4 (mWo g (cx_s X).heap) Q (m5_pursesOf_l4 a1 a2 a3) 4 [(0, .ref (g.2.2)), (1, .int (iI a1)), (2, .int (iI a2)), (3, .int (iI a3))] [] := by
    intro a1 a2 a3
    unfold m5_pursesOf_l4
    refine gj_loop (fun (s : (Int × Int)) => [(0, .ref (g.2.2)), (1, .int (iI a1)), (2, .int (iI (s.1))), (3, .int (iI (s.2)))]) (a2, a3) (fun bk4 hb4 s => ?_)
    obtain ⟨a2, a3⟩ := s
    show GJ X 4 (mWo g (cx_s X).heap) Q (m5_pursesOf_b4 a1 a2 a3 bk4) 4 [(0, .ref (g.2.2)), (1, .int (iI a1)), (2, .int (iI a2)), (3, .int (iI a3))] []
    unfold m5_pursesOf_b4
    refine gj_iload_n C dX5_pursesOf_4 3 rfl ?_
    refine gj_aload_n C dX5_pursesOf_5 0 rfl ?_
    refine mj_callVI (As := []) (rest := [.int (iI a3)]) C K dX5_pursesOf_6 (met5_people (cx_l X) g) (lw_V q1851 q1853 qs55 q134 q1854) hy5_people hR (Nat.le_of_ble_eq_true rfl) (by decide) rfl rfl (Nat.le_of_ble_eq_true rfl) (fun v6 => ?_)
    refine gj_icmp_ge (tgt := 31) C dX5_pursesOf_9 (by decide) rfl rfl (fun h9 => gj_neg h9 ?_) (fun h9 => gj_pos h9 ?_)
    · refine gj_iload_n C dX5_pursesOf_31 2 rfl ?_
      refine gj_nrmI ?_
      exact mj_iret C hQ hr dX5_pursesOf_32
    · refine gj_iload_n C dX5_pursesOf_12 2 rfl ?_
      refine gj_aload_n C dX5_pursesOf_13 0 rfl ?_
      refine mj_getR (kf := 23) (j := 14) C K dX5_pursesOf_14 (by decide) (by decide) rfl (by decide) q1894 rfl ?_
      refine gj_iload_n C dX5_pursesOf_17 1 rfl ?_
      refine gj_iconst C dX5_pursesOf_18 ?_
      refine gj_iadd C dX5_pursesOf_19 ?_
      refine gj_iload_n C dX5_pursesOf_20 3 rfl ?_
      refine gj_iadd C dX5_pursesOf_21 ?_
      refine mj_iald (j := 14) C K dX5_pursesOf_22 (by decide) rfl (fun v22 => ?_)
      refine gj_iadd C dX5_pursesOf_23 ?_
      refine gj_let (fun x24 => ?_)
      refine gj_istore_n (L' := [(2, _), (0, _), (1, _), (3, _)]) C dX5_pursesOf_24 (by decide) rfl ?_
      refine gj_iinc (L' := [(3, _), (2, _), (0, _), (1, _)]) C dX5_pursesOf_25 3 rfl (by decide) rfl ?_
      refine gj_goto (tgt := 4) C dX5_pursesOf_28 (by decide) ?_
      exact gj_to [2, 3, 1, 0] (hb4 (x24, a3 + 1)) rfl
  unfold m5_pursesOf
  refine gj_iconst C dX5_pursesOf_0 ?_
  refine gj_istore_n (L' := [(2, _), (0, _), (1, _)]) C dX5_pursesOf_1 (by decide) rfl ?_
  refine gj_iconst C dX5_pursesOf_2 ?_
  refine gj_istore_n (L' := [(3, _), (2, _), (0, _), (1, _)]) C dX5_pursesOf_3 (by decide) rfl ?_
  exact gj_to [2, 3, 1, 0] (J4 a1 0 0) rfl
def m5_years_b165 (a2 a3 a4 a5 a6 : Int) (bk82 : (Int × Int × Int) → MM Int) (a7 : Int) (bk165 : (Int) → MM Int) : MM Int :=
  pbnd (m5_people) fun v168 =>
  pite (w32 a7 < w32 v168) (
    pbnd (mwr 14 1656 (1606 + a7) 0) fun _ =>
    bk165 (a7 + 1)) (
    bk82 (a4, a5, a6 + 1))
def m5_years_l165 (a2 a3 a4 a5 a6 a7 : Int) (bk82 : (Int × Int × Int) → MM Int) : MM Int :=
  ploop (fun (s : (Int)) bk165 => m5_years_b165 a2 a3 a4 a5 a6 bk82 s bk165) (a7)
def m5_years_j162 (a2 a3 a4 a5 a6 : Int) (bk82 : (Int × Int × Int) → MM Int) : MM Int :=
  m5_years_l165 a2 a3 a4 a5 a6 0 bk82
def m5_years_b117 (a2 a3 a4 a5 a6 : Int) (bk82 : (Int × Int × Int) → MM Int) (a7 : Int) (bk117 : (Int) → MM Int) : MM Int :=
  pite (w32 a7 < 7) (
    pbnd (m5_passes 1584) fun _ =>
    bk117 (a7 + 1)) (
    pbnd (m5_allHarm 1584 1) fun v144 =>
    plet (a5 + v144) fun x148 =>
    pbnd (m5_goesHome 1584) fun v156 =>
    plet (a4 + v156) fun x160 =>
    m5_years_j162 a2 a3 x160 x148 a6 bk82)
def m5_years_l117 (a2 a3 a4 a5 a6 a7 : Int) (bk82 : (Int × Int × Int) → MM Int) : MM Int :=
  ploop (fun (s : (Int)) bk117 => m5_years_b117 a2 a3 a4 a5 a6 bk82 s bk117) (a7)
def m5_years_b82 (a2 a3 : Int) (a4 a5 a6 : Int) (bk82 : (Int × Int × Int) → MM Int) : MM Int :=
  pite (w32 a6 < w32 a2) (
    pbnd (m5_hidesByDraw) fun _ =>
    pbnd (mget 29) fun v93 =>
    pite (0 < w32 v93) (
      pbnd (mget 29) fun v105 =>
      pbnd (m5_draw v105) fun v108 =>
      pbnd (m5_leaves 1584 v108) fun _ =>
      m5_years_l117 a2 a3 a4 a5 a6 0 bk82) (
      m5_years_j162 a2 a3 a4 a5 a6 bk82)) (
    pite (w32 a3 = 0) (
      pret (w32 a4)) (
      pite (w32 a3 = 1) (
        pret (w32 a5)) (
        pbnd (m5_pursesOf 1584) fun v221 =>
        pret v221)))
def m5_years_l82 (a2 a3 a4 a5 a6 : Int) : MM Int :=
  ploop (fun (s : (Int × Int × Int)) bk82 => m5_years_b82 a2 a3 s.1 s.2.1 s.2.2 bk82) (a4, a5, a6)
def m5_years_j67 (a1 a2 a3 : Int) : MM Int :=
  pbnd (mput 30 (w64 (zi2l a1))) fun _ =>
  m5_years_l82 a2 a3 0 0 0
def m5_years (a1 a2 a3 : Int) : MM Int :=
  pbnd (mput 0 0) fun _ =>
  pbnd (m5_within a1 0 9999) fun v10 =>
  pite (w32 v10 = 0) (
    pret (-1)) (
    pbnd (m5_within a2 1 20) fun v20 =>
    pite (w32 v20 = 0) (
      pret (-1)) (
      pbnd (m5_within a3 0 2) fun v29 =>
      pite (w32 v29 = 0) (
        pret (-1)) (
        pbnd (m5_copies 0 1584 46) fun _ =>
        pbnd (mrd 14 1656 1584) fun v54 =>
        pite (w32 v54 = 1) (
          pbnd (m5_goesHome 1584) fun v63 =>
          m5_years_j67 a1 a2 a3) (
          m5_years_j67 a1 a2 a3))))
set_option maxHeartbeats 4000000 in
set_option maxRecDepth 100000 in
theorem met5_years (l : Launch) (g : MG) (a1 a2 a3 : Int) : MMet l g yX5_years cX5_years 8 (Option.some Jvm.ClassFile.FieldType.int) (4) [.ref (g.2.2), .int (iI a1), .int (iI a2), .int (iI a3)] (m5_years a1 a2 a3) rvI := by
  refine mj_start (by decide +kernel) rfl (Nat.le_of_ble_eq_true rfl) (fun X Q hl C K hQ hR hr => ?_)
  subst hl
  show GJ X 8 (mWo g (cx_s X).heap) Q (m5_years a1 a2 a3) 0 [(0, .ref (g.2.2)), (1, .int (iI a1)), (2, .int (iI a2)), (3, .int (iI a3))] []
  have J82 : ∀ (a2 a3 a4 a5 a6 : Int), GJ X 8 (mWo g (cx_s X).heap) Q (m5_years_l82 a2 a3 a4 a5 a6) 82 [(0, .ref (g.2.2)), (2, .int (iI a2)), (3, .int (iI a3)), (4, .int (iI a4)), (5, .int (iI a5)), (6, .int (iI a6))] [] := by
    intro a2 a3 a4 a5 a6
    unfold m5_years_l82
    refine gj_loop (fun (s : (Int × Int × Int)) => [(0, .ref (g.2.2)), (2, .int (iI a2)), (3, .int (iI a3)), (4, .int (iI (s.1))), (5, .int (iI (s.2.1))), (6, .int (iI (s.2.2)))]) (a4, a5, a6) (fun bk82 hb82 s => ?_)
    obtain ⟨a4, a5, a6⟩ := s
    show GJ X 8 (mWo g (cx_s X).heap) Q (m5_years_b82 a2 a3 a4 a5 a6 bk82) 82 [(0, .ref (g.2.2)), (2, .int (iI a2)), (3, .int (iI a3)), (4, .int (iI a4)), (5, .int (iI a5)), (6, .int (iI a6))] []
    have J165 : ∀ (a4 a5 a6 a7 : Int), GJ X 8 (mWo g (cx_s X).heap) Q (m5_years_l165 a2 a3 a4 a5 a6 a7 bk82) 165 [(0, .ref (g.2.2)), (2, .int (iI a2)), (3, .int (iI a3)), (4, .int (iI a4)), (5, .int (iI a5)), (6, .int (iI a6)), (7, .int (iI a7))] [] := by
      intro a4 a5 a6 a7
      unfold m5_years_l165
      refine gj_loop (fun (s : (Int)) => [(0, .ref (g.2.2)), (2, .int (iI a2)), (3, .int (iI a3)), (4, .int (iI a4)), (5, .int (iI a5)), (6, .int (iI a6)), (7, .int (iI s))]) (a7) (fun bk165 hb165 s => ?_)
      obtain ⟨a7, rfl⟩ : ∃ z, z = s := ⟨s, rfl⟩
      show GJ X 8 (mWo g (cx_s X).heap) Q (m5_years_b165 a2 a3 a4 a5 a6 bk82 a7 bk165) 165 [(0, .ref (g.2.2)), (2, .int (iI a2)), (3, .int (iI a3)), (4, .int (iI a4)), (5, .int (iI a5)), (6, .int (iI a6)), (7, .int (iI a7))] []
      unfold m5_years_b165
      refine gj_iload C dX5_years_165 6 rfl ?_
      refine gj_aload_n C dX5_years_167 0 rfl ?_
      refine mj_callVI (As := []) (rest := [.int (iI a7)]) C K dX5_years_168 (met5_people (cx_l X) g) (lw_V q1851 q1853 qs55 q134 q1854) hy5_people hR (Nat.le_of_ble_eq_true rfl) (by decide) rfl rfl (Nat.le_of_ble_eq_true rfl) (fun v168 => ?_)
      refine gj_icmp_ge (tgt := 192) C dX5_years_171 (by decide) rfl rfl (fun h171 => gj_neg h171 ?_) (fun h171 => gj_pos h171 ?_)
      · refine gj_iinc (L' := [(6, _), (0, _), (2, _), (3, _), (4, _), (5, _), (7, _)]) C dX5_years_192 5 rfl (by decide) rfl ?_
        refine gj_goto (tgt := 82) C dX5_years_195 (by decide) ?_
        exact gj_to [1, 2, 3, 4, 5, 0] (hb82 (a4, a5, a6 + 1)) rfl
      · refine gj_aload_n C dX5_years_174 0 rfl ?_
        refine mj_getR (kf := 23) (j := 14) C K dX5_years_175 (by decide) (by decide) rfl (by decide) q1894 rfl ?_
        refine gj_sipush C dX5_years_178 rfl ?_
        refine gj_iload C dX5_years_181 6 rfl ?_
        refine gj_iadd C dX5_years_183 ?_
        refine gj_iconst C dX5_years_184 ?_
        refine mj_iast (j := 14) C K dX5_years_185 (by decide) (by decide) rfl ?_
        refine gj_iinc (L' := [(7, _), (0, _), (2, _), (3, _), (4, _), (5, _), (6, _)]) C dX5_years_186 6 rfl (by decide) rfl ?_
        refine gj_goto (tgt := 165) C dX5_years_189 (by decide) ?_
        exact gj_to [1, 2, 3, 4, 5, 6, 0] (hb165 (a7 + 1)) rfl
    have J162 : ∀ (a4 a5 a6 : Int), GJ X 8 (mWo g (cx_s X).heap) Q (m5_years_j162 a2 a3 a4 a5 a6 bk82) 162 [(0, .ref (g.2.2)), (2, .int (iI a2)), (3, .int (iI a3)), (4, .int (iI a4)), (5, .int (iI a5)), (6, .int (iI a6))] [] := by
      intro a4 a5 a6
      unfold m5_years_j162
      refine gj_iconst C dX5_years_162 ?_
      refine gj_istore (L' := [(7, _), (0, _), (2, _), (3, _), (4, _), (5, _), (6, _)]) C dX5_years_163 (by decide) rfl ?_
      exact gj_to [1, 2, 3, 4, 5, 6, 0] (J165 a4 a5 a6 0) rfl
    have J117 : ∀ (a4 a5 a6 a7 : Int), GJ X 8 (mWo g (cx_s X).heap) Q (m5_years_l117 a2 a3 a4 a5 a6 a7 bk82) 117 [(0, .ref (g.2.2)), (2, .int (iI a2)), (3, .int (iI a3)), (4, .int (iI a4)), (5, .int (iI a5)), (6, .int (iI a6)), (7, .int (iI a7))] [] := by
      intro a4 a5 a6 a7
      unfold m5_years_l117
      refine gj_loop (fun (s : (Int)) => [(0, .ref (g.2.2)), (2, .int (iI a2)), (3, .int (iI a3)), (4, .int (iI a4)), (5, .int (iI a5)), (6, .int (iI a6)), (7, .int (iI s))]) (a7) (fun bk117 hb117 s => ?_)
      obtain ⟨a7, rfl⟩ : ∃ z, z = s := ⟨s, rfl⟩
      show GJ X 8 (mWo g (cx_s X).heap) Q (m5_years_b117 a2 a3 a4 a5 a6 bk82 a7 bk117) 117 [(0, .ref (g.2.2)), (2, .int (iI a2)), (3, .int (iI a3)), (4, .int (iI a4)), (5, .int (iI a5)), (6, .int (iI a6)), (7, .int (iI a7))] []
      unfold m5_years_b117
      refine gj_iload C dX5_years_117 6 rfl ?_
      refine gj_bipush C dX5_years_119 rfl ?_
      refine gj_icmp_ge (tgt := 137) (b' := 7) C dX5_years_121 (by decide) rfl (by decide) (fun h121 => gj_neg h121 ?_) (fun h121 => gj_pos h121 ?_)
      · refine gj_iload C dX5_years_137 4 rfl ?_
        refine gj_aload_n C dX5_years_139 0 rfl ?_
        refine gj_sipush C dX5_years_140 rfl ?_
        refine gj_iconst C dX5_years_143 ?_
        refine mj_callVI (As := [.int (iI 1584), .int (iI 1)]) (rest := [.int (iI a5)]) C K dX5_years_144 (met5_allHarm (cx_l X) g 1584 1) (lw_V q2264 q2266 qs109 q134 q2267) hy5_allHarm hR (Nat.le_of_ble_eq_true rfl) (by decide) rfl rfl (Nat.le_of_ble_eq_true rfl) (fun v144 => ?_)
        refine gj_iadd C dX5_years_147 ?_
        refine gj_let (fun x148 => ?_)
        refine gj_istore (L' := [(5, _), (0, _), (2, _), (3, _), (4, _), (6, _), (7, _)]) C dX5_years_148 (by decide) rfl ?_
        refine gj_iload C dX5_years_150 4 rfl ?_
        refine gj_aload_n C dX5_years_152 1 rfl ?_
        refine gj_sipush C dX5_years_153 rfl ?_
        refine mj_callVI (As := [.int (iI 1584)]) (rest := [.int (iI a4)]) C K dX5_years_156 (met5_goesHome (cx_l X) g 1584) (lw_V q2260 q2262 qs108 q134 q2263) hy5_goesHome hR (Nat.le_of_ble_eq_true rfl) (by decide) rfl rfl (Nat.le_of_ble_eq_true rfl) (fun v156 => ?_)
        refine gj_iadd C dX5_years_159 ?_
        refine gj_let (fun x160 => ?_)
        refine gj_istore (L' := [(4, _), (5, _), (0, _), (2, _), (3, _), (6, _), (7, _)]) C dX5_years_160 (by decide) rfl ?_
        exact gj_to [2, 3, 4, 0, 1, 5] (J162 x160 x148 a6) rfl
      · refine gj_aload_n C dX5_years_124 0 rfl ?_
        refine gj_sipush C dX5_years_125 rfl ?_
        refine mj_callVV (As := [.int (iI 1584)]) (rest := []) C K dX5_years_128 (met5_passes (cx_l X) g 1584) (lw_V q2221 q2223 qs100 q134 q2224) hy5_passes hR (Nat.le_of_ble_eq_true rfl) (by decide) rfl rfl (Nat.zero_le _) ?_
        refine gj_iinc (L' := [(7, _), (0, _), (2, _), (3, _), (4, _), (5, _), (6, _)]) C dX5_years_131 6 rfl (by decide) rfl ?_
        refine gj_goto (tgt := 117) C dX5_years_134 (by decide) ?_
        exact gj_to [1, 2, 3, 4, 5, 6, 0] (hb117 (a7 + 1)) rfl
    unfold m5_years_b82
    refine gj_iload C dX5_years_82 5 rfl ?_
    refine gj_iload_n C dX5_years_84 1 rfl ?_
    refine gj_icmp_ge (tgt := 198) C dX5_years_85 (by decide) rfl rfl (fun h85 => gj_neg h85 ?_) (fun h85 => gj_pos h85 ?_)
    · refine gj_iload_n C dX5_years_198 2 rfl ?_
      refine gj_if_ne (tgt := 207) C dX5_years_199 (by decide) (fun h199 => gj_neg h199 ?_) (fun h199 => gj_pos h199 ?_)
      · refine gj_iload_n C dX5_years_207 2 rfl ?_
        refine gj_iconst C dX5_years_208 ?_
        refine gj_icmp_ne (tgt := 217) (b' := 1) C dX5_years_209 (by decide) rfl (by decide) (fun h209 => gj_neg h209 ?_) (fun h209 => gj_pos h209 ?_)
        · refine gj_aload_n C dX5_years_217 0 rfl ?_
          refine gj_sipush C dX5_years_218 rfl ?_
          refine mj_callVI (As := [.int (iI 1584)]) (rest := []) C K dX5_years_221 (met5_pursesOf (cx_l X) g 1584) (lw_V q2382 q2384 qs122 q134 q2385) hy5_pursesOf hR (Nat.le_of_ble_eq_true rfl) (by decide) rfl rfl (Nat.zero_le _) (fun v221 => ?_)
          exact mj_iret C hQ hr dX5_years_224
        · refine gj_iload C dX5_years_212 4 rfl ?_
          refine gj_goto (tgt := 224) C dX5_years_214 (by decide) ?_
          refine gj_nrmI ?_
          exact mj_iret C hQ hr dX5_years_224
      · refine gj_iload C dX5_years_202 3 rfl ?_
        refine gj_goto (tgt := 224) C dX5_years_204 (by decide) ?_
        refine gj_nrmI ?_
        exact mj_iret C hQ hr dX5_years_224
    · refine gj_aload_n C dX5_years_88 0 rfl ?_
      refine mj_callVV (As := []) (rest := []) C K dX5_years_89 (met5_hidesByDraw (cx_l X) g) (lw_V q2378 q2380 qs121 q134 q2381) hy5_hidesByDraw hR (Nat.le_of_ble_eq_true rfl) (by decide) rfl rfl (Nat.zero_le _) ?_
      refine gj_aload_n C dX5_years_92 0 rfl ?_
      refine mj_getI (kf := 29) C K dX5_years_93 (by decide) (by decide) rfl q1900 rfl (fun v93 => ?_)
      refine gj_if_le (tgt := 162) C dX5_years_96 (by decide) (fun h96 => gj_neg h96 ?_) (fun h96 => gj_pos h96 ?_)
      · exact gj_to [0, 1, 2, 3, 4, 5] (J162 a4 a5 a6) rfl
      · refine gj_aload_n C dX5_years_99 0 rfl ?_
        refine gj_sipush C dX5_years_100 rfl ?_
        refine gj_aload_n C dX5_years_103 0 rfl ?_
        refine gj_aload_n C dX5_years_104 0 rfl ?_
        refine mj_getI (kf := 29) C K dX5_years_105 (by decide) (by decide) rfl q1900 rfl (fun v105 => ?_)
        refine mj_callVI (As := [.int (iI v105)]) (rest := [.int (iI 1584), .ref (g.2.2)]) C K dX5_years_108 (met5_draw (cx_l X) g v105) (lw_V q2181 q2183 qs93 q134 q2184) hy5_draw hR (Nat.le_of_ble_eq_true rfl) (by decide) rfl rfl (Nat.le_of_ble_eq_true rfl) (fun v108 => ?_)
        refine mj_callVV (As := [.int (iI 1584), .int (iI v108)]) (rest := []) C K dX5_years_111 (met5_leaves (cx_l X) g 1584 v108) (lw_V q2189 q2191 qs94 q134 q2192) hy5_leaves hR (Nat.le_of_ble_eq_true rfl) (by decide) rfl rfl (Nat.zero_le _) ?_
        refine gj_iconst C dX5_years_114 ?_
        refine gj_istore (L' := [(7, _), (0, _), (2, _), (3, _), (4, _), (5, _), (6, _)]) C dX5_years_115 (by decide) rfl ?_
        exact gj_to [1, 2, 3, 4, 5, 6, 0] (J117 a4 a5 a6 0) rfl
  have J67 : ∀ (a1 a2 a3 : Int), GJ X 8 (mWo g (cx_s X).heap) Q (m5_years_j67 a1 a2 a3) 67 [(0, .ref (g.2.2)), (1, .int (iI a1)), (2, .int (iI a2)), (3, .int (iI a3))] [] := by
    intro a1 a2 a3
    unfold m5_years_j67
    refine gj_aload_n C dX5_years_67 0 rfl ?_
    refine gj_iload_n C dX5_years_68 1 rfl ?_
    refine gj_i2l C dX5_years_69 ?_
    refine gj_nrmL ?_
    refine mj_putL C K dX5_years_70 q1901 ?_
    refine gj_iconst C dX5_years_73 ?_
    refine gj_istore (L' := [(4, _), (0, _), (1, _), (2, _), (3, _)]) C dX5_years_74 (by decide) rfl ?_
    refine gj_iconst C dX5_years_76 ?_
    refine gj_istore (L' := [(5, _), (4, _), (0, _), (1, _), (2, _), (3, _)]) C dX5_years_77 (by decide) rfl ?_
    refine gj_iconst C dX5_years_79 ?_
    refine gj_istore (L' := [(6, _), (5, _), (4, _), (0, _), (1, _), (2, _), (3, _)]) C dX5_years_80 (by decide) rfl ?_
    exact gj_to [3, 5, 6, 2, 1, 0] (J82 a2 a3 0 0 0) rfl
  unfold m5_years
  refine gj_aload_n C dX5_years_0 0 rfl ?_
  refine gj_iconst C dX5_years_1 ?_
  refine mj_putI (kf := 0) C K dX5_years_2 (by decide) (by decide) rfl q1871 rfl rfl (by decide +kernel) ?_
  refine gj_iload_n C dX5_years_5 1 rfl ?_
  refine gj_iconst C dX5_years_6 ?_
  refine gj_sipush C dX5_years_7 rfl ?_
  refine mj_callSI (As := [.int (iI a1), .int (iI 0), .int (iI 9999)]) (rest := []) C K dX5_years_10 (met5_within (cx_l X) g a1 0 9999) (lw_S q2142 q2143 q134 q2144) hy5s_within hR (Nat.le_of_ble_eq_true rfl) (by decide) rfl rfl (Nat.zero_le _) (fun v10 => ?_)
  refine gj_if_eq (tgt := 35) C dX5_years_13 (by decide) (fun h13 => gj_pos h13 ?_) (fun h13 => gj_neg h13 ?_)
  · refine gj_iconst C dX5_years_35 ?_
    exact mj_iret C hQ hr dX5_years_36
  · refine gj_iload_n C dX5_years_16 2 rfl ?_
    refine gj_iconst C dX5_years_17 ?_
    refine gj_bipush C dX5_years_18 rfl ?_
    refine mj_callSI (As := [.int (iI a2), .int (iI 1), .int (iI 20)]) (rest := []) C K dX5_years_20 (met5_within (cx_l X) g a2 1 20) (lw_S q2142 q2143 q134 q2144) hy5s_within hR (Nat.le_of_ble_eq_true rfl) (by decide) rfl rfl (Nat.zero_le _) (fun v20 => ?_)
    refine gj_if_eq (tgt := 35) C dX5_years_23 (by decide) (fun h23 => gj_pos h23 ?_) (fun h23 => gj_neg h23 ?_)
    · refine gj_iconst C dX5_years_35 ?_
      exact mj_iret C hQ hr dX5_years_36
    · refine gj_iload_n C dX5_years_26 3 rfl ?_
      refine gj_iconst C dX5_years_27 ?_
      refine gj_iconst C dX5_years_28 ?_
      refine mj_callSI (As := [.int (iI a3), .int (iI 0), .int (iI 2)]) (rest := []) C K dX5_years_29 (met5_within (cx_l X) g a3 0 2) (lw_S q2142 q2143 q134 q2144) hy5s_within hR (Nat.le_of_ble_eq_true rfl) (by decide) rfl rfl (Nat.zero_le _) (fun v29 => ?_)
      refine gj_if_ne (tgt := 37) C dX5_years_32 (by decide) (fun h32 => gj_neg h32 ?_) (fun h32 => gj_pos h32 ?_)
      · refine gj_aload_n C dX5_years_37 0 rfl ?_
        refine gj_iconst C dX5_years_38 ?_
        refine gj_sipush C dX5_years_39 rfl ?_
        refine gj_bipush C dX5_years_42 rfl ?_
        refine mj_callVV (As := [.int (iI 0), .int (iI 1584), .int (iI 46)]) (rest := []) C K dX5_years_44 (met5_copies (cx_l X) g 0 1584 46) (lw_V q2169 q2171 qs91 q134 q2172) hy5_copies hR (Nat.le_of_ble_eq_true rfl) (by decide) rfl rfl (Nat.zero_le _) ?_
        refine gj_aload_n C dX5_years_47 0 rfl ?_
        refine mj_getR (kf := 23) (j := 14) C K dX5_years_48 (by decide) (by decide) rfl (by decide) q1894 rfl ?_
        refine gj_sipush C dX5_years_51 rfl ?_
        refine mj_iald (j := 14) C K dX5_years_54 (by decide) rfl (fun v54 => ?_)
        refine gj_iconst C dX5_years_55 ?_
        refine gj_icmp_ne (tgt := 67) (b' := 1) C dX5_years_56 (by decide) rfl (by decide) (fun h56 => gj_neg h56 ?_) (fun h56 => gj_pos h56 ?_)
        · exact gj_to [0, 1, 2, 3] (J67 a1 a2 a3) rfl
        · refine gj_aload_n C dX5_years_59 0 rfl ?_
          refine gj_sipush C dX5_years_60 rfl ?_
          refine mj_callVI (As := [.int (iI 1584)]) (rest := []) C K dX5_years_63 (met5_goesHome (cx_l X) g 1584) (lw_V q2260 q2262 qs108 q134 q2263) hy5_goesHome hR (Nat.le_of_ble_eq_true rfl) (by decide) rfl rfl (Nat.zero_le _) (fun v63 => ?_)
          refine gj_pop C dX5_years_66 rfl ?_
          exact gj_to [0, 1, 2, 3] (J67 a1 a2 a3) rfl
      · refine gj_iconst C dX5_years_35 ?_
        exact mj_iret C hQ hr dX5_years_36
def m5_mark_j83 (s1 : Int) : MM Int :=
  pbnd (mput 24 (w32 s1)) fun _ =>
  pbnd (pzo 1) fun _ => pret 1
def m5_mark_j29 (a1 a2 : Int) : MM Int :=
  pbnd (mwrz 15 4 a1 1) fun _ =>
  plet (if w32 a2 = 0 then 0 else 72 * ((1 + a1))) fun d51 =>
  plet (if w32 a2 = 0 then 72 * ((1 + a1)) else 0) fun d65 =>
  pbnd (m5_copies d51 d65 72) fun _ =>
  pite (w32 a2 = 0) (
    pbnd (mget 24) fun v80 =>
    m5_mark_j83 v80) (
    m5_mark_j83 0)
def m5_mark (a1 a2 : Int) : MM Int :=
  pbnd (mput 0 0) fun _ =>
  pbnd (m5_within a1 0 3) fun v8 =>
  pite (w32 v8 = 0) (
    pbnd (pzo 0) fun _ => pret 0) (
    pite (w32 a2 = 0) (
      m5_mark_j29 a1 a2) (
      pbnd (mrd 15 4 a1) fun v23 =>
      pite (w32 v23 = 0) (
        pbnd (pzo 0) fun _ => pret 0) (
        m5_mark_j29 a1 a2)))
set_option maxHeartbeats 4000000 in
set_option maxRecDepth 100000 in
theorem met5_mark (l : Launch) (g : MG) (a1 a2 : Int) : MMet l g yX5_mark cX5_mark 3 (Option.some Jvm.ClassFile.FieldType.boolean) (1) [.ref (g.2.2), .int (iI a1), .int (iI a2)] (m5_mark a1 a2) rvI := by
  refine mj_start (by decide +kernel) rfl (Nat.le_of_ble_eq_true rfl) (fun X Q hl C K hQ hR hr => ?_)
  subst hl
  show GJ X 3 (mWo g (cx_s X).heap) Q (m5_mark a1 a2) 0 [(0, .ref (g.2.2)), (1, .int (iI a1)), (2, .int (iI a2))] []
  have J83 : ∀ (s1 : Int), GJ X 3 (mWo g (cx_s X).heap) Q (m5_mark_j83 s1) 83 [] [.int (iI s1), .ref (g.2.2)] := by
    intro s1
    unfold m5_mark_j83
    refine gj_nrmI ?_
    refine mj_putI (kf := 24) C K dX5_mark_83 (by decide) (by decide) rfl q1895 rfl rfl (by decide +kernel) ?_
    refine gj_iconst C dX5_mark_86 ?_
    exact mj_zret C hQ hr dX5_mark_87
  have J29 : ∀ (a1 a2 : Int), GJ X 3 (mWo g (cx_s X).heap) Q (m5_mark_j29 a1 a2) 29 [(0, .ref (g.2.2)), (1, .int (iI a1)), (2, .int (iI a2))] [] := by
    intro a1 a2
    unfold m5_mark_j29
    refine gj_aload_n C dX5_mark_29 0 rfl ?_
    refine mj_getR (kf := 25) (j := 15) C K dX5_mark_30 (by decide) (by decide) rfl (by decide) q1896 rfl ?_
    refine gj_iload_n C dX5_mark_33 1 rfl ?_
    refine gj_iconst C dX5_mark_34 ?_
    refine mj_zast (j := 15) C K dX5_mark_35 (by decide) (by decide) rfl ?_
    refine gj_aload_n C dX5_mark_36 0 rfl ?_
    refine gj_iload_n C dX5_mark_37 2 rfl ?_
    refine gj_dia (J := 51) (L := [(0, .ref (g.2.2)), (1, .int (iI a1)), (2, .int (iI a2))]) (st := [.ref (g.2.2)]) (fun d51 => ?_) (fun t hJ => ?_)
    · skip
      refine gj_iload_n C dX5_mark_51 2 rfl ?_
      refine gj_dia (J := 65) (L := [(0, .ref (g.2.2)), (1, .int (iI a1)), (2, .int (iI a2))]) (st := [.int (iI d51), .ref (g.2.2)]) (fun d65 => ?_) (fun t hJ => ?_)
      · skip
        refine gj_bipush C dX5_mark_65 rfl ?_
        refine mj_callVV (As := [.int (iI d51), .int (iI d65), .int (iI 72)]) (rest := []) C K dX5_mark_67 (met5_copies (cx_l X) g d51 d65 72) (lw_V q2169 q2171 qs91 q134 q2172) hy5_copies hR (Nat.le_of_ble_eq_true rfl) (by decide) rfl rfl (Nat.zero_le _) ?_
        refine gj_aload_n C dX5_mark_70 0 rfl ?_
        refine gj_iload_n C dX5_mark_71 2 rfl ?_
        refine gj_if_eq (tgt := 79) C dX5_mark_72 (by decide) (fun h72 => gj_pos h72 ?_) (fun h72 => gj_neg h72 ?_)
        · refine gj_aload_n C dX5_mark_79 0 rfl ?_
          refine mj_getI (kf := 24) C K dX5_mark_80 (by decide) (by decide) rfl q1895 rfl (fun v80 => ?_)
          exact gj_to [] (J83 v80) rfl
        · refine gj_iconst C dX5_mark_75 ?_
          refine gj_goto (tgt := 83) C dX5_mark_76 (by decide) ?_
          exact gj_to [] (J83 0) rfl
      · refine gj_if_eq (tgt := 59) C dX5_mark_52 (by decide) (fun h52 => ?_) (fun h52 => ?_)
        · refine gj_bipush C dX5_mark_59 rfl ?_
          refine gj_iconst C dX5_mark_61 ?_
          refine gj_iload_n C dX5_mark_62 1 rfl ?_
          refine gj_iadd C dX5_mark_63 ?_
          refine gj_imul C dX5_mark_64 ?_
          exact (by rw [if_pos h52] at hJ; exact hJ)
        · refine gj_iconst C dX5_mark_55 ?_
          refine gj_goto (tgt := 65) C dX5_mark_56 (by decide) ?_
          exact (by rw [if_neg h52] at hJ; exact hJ)
    · refine gj_if_eq (tgt := 50) C dX5_mark_38 (by decide) (fun h38 => ?_) (fun h38 => ?_)
      · refine gj_iconst C dX5_mark_50 ?_
        exact (by rw [if_pos h38] at hJ; exact hJ)
      · refine gj_bipush C dX5_mark_41 rfl ?_
        refine gj_iconst C dX5_mark_43 ?_
        refine gj_iload_n C dX5_mark_44 1 rfl ?_
        refine gj_iadd C dX5_mark_45 ?_
        refine gj_imul C dX5_mark_46 ?_
        refine gj_goto (tgt := 51) C dX5_mark_47 (by decide) ?_
        exact (by rw [if_neg h38] at hJ; exact hJ)
  unfold m5_mark
  refine gj_aload_n C dX5_mark_0 0 rfl ?_
  refine gj_iconst C dX5_mark_1 ?_
  refine mj_putI (kf := 0) C K dX5_mark_2 (by decide) (by decide) rfl q1871 rfl rfl (by decide +kernel) ?_
  refine gj_iload_n C dX5_mark_5 1 rfl ?_
  refine gj_iconst C dX5_mark_6 ?_
  refine gj_iconst C dX5_mark_7 ?_
  refine mj_callSI (As := [.int (iI a1), .int (iI 0), .int (iI 3)]) (rest := []) C K dX5_mark_8 (met5_within (cx_l X) g a1 0 3) (lw_S q2142 q2143 q134 q2144) hy5s_within hR (Nat.le_of_ble_eq_true rfl) (by decide) rfl rfl (Nat.zero_le _) (fun v8 => ?_)
  refine gj_if_eq (tgt := 27) C dX5_mark_11 (by decide) (fun h11 => gj_pos h11 ?_) (fun h11 => gj_neg h11 ?_)
  · refine gj_iconst C dX5_mark_27 ?_
    exact mj_zret C hQ hr dX5_mark_28
  · refine gj_iload_n C dX5_mark_14 2 rfl ?_
    refine gj_if_eq (tgt := 29) C dX5_mark_15 (by decide) (fun h15 => gj_pos h15 ?_) (fun h15 => gj_neg h15 ?_)
    · exact gj_to [0, 1, 2] (J29 a1 a2) rfl
    · refine gj_aload_n C dX5_mark_18 0 rfl ?_
      refine mj_getR (kf := 25) (j := 15) C K dX5_mark_19 (by decide) (by decide) rfl (by decide) q1896 rfl ?_
      refine gj_iload_n C dX5_mark_22 1 rfl ?_
      refine mj_zald (j := 15) C K dX5_mark_23 (by decide) rfl (fun v23 => ?_)
      refine gj_if_ne (tgt := 29) C dX5_mark_24 (by decide) (fun h24 => gj_neg h24 ?_) (fun h24 => gj_pos h24 ?_)
      · exact gj_to [0, 1, 2] (J29 a1 a2) rfl
      · refine gj_iconst C dX5_mark_27 ?_
        exact mj_zret C hQ hr dX5_mark_28
def m5_debtsOf_b4 (a1 a2 : Int) (bk4 : (Int × Int) → MM Int) : MM Int :=
  pbnd (m5_people) fun v6 =>
  pite (w32 a2 < w32 v6) (
    pbnd (mrd 14 1656 (10 + a2)) fun v21 =>
    plet (a1 + v21) fun x23 =>
    bk4 (x23, a2 + 1)) (
    pret (w32 a1))
def m5_debtsOf_l4 (a1 a2 : Int) : MM Int :=
  ploop (fun (s : (Int × Int)) bk4 => m5_debtsOf_b4 s.1 s.2 bk4) (a1, a2)
def m5_debtsOf : MM Int :=
  m5_debtsOf_l4 0 0
set_option maxHeartbeats 4000000 in
set_option maxRecDepth 100000 in
theorem met5_debtsOf (l : Launch) (g : MG) : MMet l g yX5_debtsOf cX5_debtsOf 3 (Option.some Jvm.ClassFile.FieldType.int) (1) [.ref (g.2.2)] (m5_debtsOf) rvI := by
  refine mj_start (by decide +kernel) rfl (Nat.le_of_ble_eq_true rfl) (fun X Q hl C K hQ hR hr => ?_)
  subst hl
  show GJ X 3 (mWo g (cx_s X).heap) Q (m5_debtsOf) 0 [(0, .ref (g.2.2))] []
  have J4 : ∀ (a1 a2 : Int), GJ X 3 (mWo g (cx_s X).heap) Q (m5_debtsOf_l4 a1 a2) 4 [(0, .ref (g.2.2)), (1, .int (iI a1)), (2, .int (iI a2))] [] := by
    intro a1 a2
    unfold m5_debtsOf_l4
    refine gj_loop (fun (s : (Int × Int)) => [(0, .ref (g.2.2)), (1, .int (iI (s.1))), (2, .int (iI (s.2)))]) (a1, a2) (fun bk4 hb4 s => ?_)
    obtain ⟨a1, a2⟩ := s
    show GJ X 3 (mWo g (cx_s X).heap) Q (m5_debtsOf_b4 a1 a2 bk4) 4 [(0, .ref (g.2.2)), (1, .int (iI a1)), (2, .int (iI a2))] []
    unfold m5_debtsOf_b4
    refine gj_iload_n C dX5_debtsOf_4 2 rfl ?_
    refine gj_aload_n C dX5_debtsOf_5 0 rfl ?_
    refine mj_callVI (As := []) (rest := [.int (iI a2)]) C K dX5_debtsOf_6 (met5_people (cx_l X) g) (lw_V q1851 q1853 qs55 q134 q1854) hy5_people hR (Nat.le_of_ble_eq_true rfl) (by decide) rfl rfl (Nat.le_of_ble_eq_true rfl) (fun v6 => ?_)
    refine gj_icmp_ge (tgt := 30) C dX5_debtsOf_9 (by decide) rfl rfl (fun h9 => gj_neg h9 ?_) (fun h9 => gj_pos h9 ?_)
    · refine gj_iload_n C dX5_debtsOf_30 1 rfl ?_
      refine gj_nrmI ?_
      exact mj_iret C hQ hr dX5_debtsOf_31
    · refine gj_iload_n C dX5_debtsOf_12 1 rfl ?_
      refine gj_aload_n C dX5_debtsOf_13 0 rfl ?_
      refine mj_getR (kf := 23) (j := 14) C K dX5_debtsOf_14 (by decide) (by decide) rfl (by decide) q1894 rfl ?_
      refine gj_bipush C dX5_debtsOf_17 rfl ?_
      refine gj_iload_n C dX5_debtsOf_19 2 rfl ?_
      refine gj_iadd C dX5_debtsOf_20 ?_
      refine mj_iald (j := 14) C K dX5_debtsOf_21 (by decide) rfl (fun v21 => ?_)
      refine gj_iadd C dX5_debtsOf_22 ?_
      refine gj_let (fun x23 => ?_)
      refine gj_istore_n (L' := [(1, _), (0, _), (2, _)]) C dX5_debtsOf_23 (by decide) rfl ?_
      refine gj_iinc (L' := [(2, _), (1, _), (0, _)]) C dX5_debtsOf_24 2 rfl (by decide) rfl ?_
      refine gj_goto (tgt := 4) C dX5_debtsOf_27 (by decide) ?_
      exact gj_to [2, 1, 0] (hb4 (x23, a2 + 1)) rfl
  unfold m5_debtsOf
  refine gj_iconst C dX5_debtsOf_0 ?_
  refine gj_istore_n (L' := [(1, _), (0, _)]) C dX5_debtsOf_1 (by decide) rfl ?_
  refine gj_iconst C dX5_debtsOf_2 ?_
  refine gj_istore_n (L' := [(2, _), (1, _), (0, _)]) C dX5_debtsOf_3 (by decide) rfl ?_
  exact gj_to [2, 1, 0] (J4 0 0) rfl
def m5_count_j72 (a1 : Int) : MM Int :=
  pbnd (mrd 6 160 a1) fun v77 =>
  pret v77
def m5_count (a1 : Int) : MM Int :=
  pbnd (mput 0 0) fun _ =>
  pite (w32 a1 = 0) (
    m5_count_j72 a1) (
    pite (w32 a1 = 1) (
      m5_count_j72 a1) (
      pite (w32 a1 = 2) (
        m5_count_j72 a1) (
        pite (w32 a1 = 3) (
          pbnd (mrd 14 1656 0) fun v84 =>
          pret v84) (
          pite (w32 a1 = 4) (
            pbnd (mrd 14 1656 1) fun v91 =>
            pret v91) (
            pite (w32 a1 = 5) (
              pbnd (mrd 14 1656 2) fun v98 =>
              pret v98) (
              pite (w32 a1 = 6) (
                pbnd (mrd 14 1656 3) fun v105 =>
                pret v105) (
                pite (w32 a1 = 7) (
                  pbnd (m5_pursesOf 0) fun v109 =>
                  pret v109) (
                  pite (w32 a1 = 8) (
                    pbnd (m5_debtsOf) fun v114 =>
                    pret v114) (
                    pite (w32 a1 = 9) (
                      pbnd (mrd 11 250 0) fun v123 =>
                      pret v123) (
                      pite (w32 a1 = 10) (
                        pbnd (mrd 14 1656 46) fun v131 =>
                        pret v131) (
                        pite (w32 a1 = 11) (
                          pbnd (mget 24) fun v134 =>
                          pret v134) (
                          pite (w32 a1 = 12) (
                            pbnd (mget 2) fun v139 =>
                            pret v139) (
                            pret (-1))))))))))))))
set_option maxHeartbeats 4000000 in
set_option maxRecDepth 100000 in
theorem met5_count (l : Launch) (g : MG) (a1 : Int) : MMet l g yX5_count cX5_count 2 (Option.some Jvm.ClassFile.FieldType.int) (2) [.ref (g.2.2), .int (iI a1)] (m5_count a1) rvI := by
  refine mj_start (by decide +kernel) rfl (Nat.le_of_ble_eq_true rfl) (fun X Q hl C K hQ hR hr => ?_)
  subst hl
  show GJ X 2 (mWo g (cx_s X).heap) Q (m5_count a1) 0 [(0, .ref (g.2.2)), (1, .int (iI a1))] []
  have J72 : ∀ (a1 : Int), GJ X 2 (mWo g (cx_s X).heap) Q (m5_count_j72 a1) 72 [(0, .ref (g.2.2)), (1, .int (iI a1))] [] := by
    intro a1
    unfold m5_count_j72
    refine gj_aload_n C dX5_count_72 0 rfl ?_
    refine mj_getR (kf := 10) (j := 6) C K dX5_count_73 (by decide) (by decide) rfl (by decide) q1881 rfl ?_
    refine gj_iload_n C dX5_count_76 1 rfl ?_
    refine mj_iald (j := 6) C K dX5_count_77 (by decide) rfl (fun v77 => ?_)
    exact mj_iret C hQ hr dX5_count_78
  unfold m5_count
  refine gj_aload_n C dX5_count_0 0 rfl ?_
  refine gj_iconst C dX5_count_1 ?_
  refine mj_putI (kf := 0) C K dX5_count_2 (by decide) (by decide) rfl q1871 rfl rfl (by decide +kernel) ?_
  refine gj_iload_n C dX5_count_5 1 rfl ?_
  by_cases h6_0 : w32 a1 = 0
  · refine gj_pos h6_0 ?_
    refine gj_tin (tgt := 72) C 0 h6_0 dX5_count_6 (by decide) (by decide) rfl (by decide) ?_
    exact gj_to [0, 1] (J72 a1) rfl
  · refine gj_neg h6_0 ?_
    by_cases h6_1 : w32 a1 = 1
    · refine gj_pos h6_1 ?_
      refine gj_tin (tgt := 72) C 1 h6_1 dX5_count_6 (by decide) (by decide) rfl (by decide) ?_
      exact gj_to [0, 1] (J72 a1) rfl
    · refine gj_neg h6_1 ?_
      by_cases h6_2 : w32 a1 = 2
      · refine gj_pos h6_2 ?_
        refine gj_tin (tgt := 72) C 2 h6_2 dX5_count_6 (by decide) (by decide) rfl (by decide) ?_
        exact gj_to [0, 1] (J72 a1) rfl
      · refine gj_neg h6_2 ?_
        by_cases h6_3 : w32 a1 = 3
        · refine gj_pos h6_3 ?_
          refine gj_tin (tgt := 79) C 3 h6_3 dX5_count_6 (by decide) (by decide) rfl (by decide) ?_
          refine gj_aload_n C dX5_count_79 0 rfl ?_
          refine mj_getR (kf := 23) (j := 14) C K dX5_count_80 (by decide) (by decide) rfl (by decide) q1894 rfl ?_
          refine gj_iconst C dX5_count_83 ?_
          refine mj_iald (j := 14) C K dX5_count_84 (by decide) rfl (fun v84 => ?_)
          exact mj_iret C hQ hr dX5_count_85
        · refine gj_neg h6_3 ?_
          by_cases h6_4 : w32 a1 = 4
          · refine gj_pos h6_4 ?_
            refine gj_tin (tgt := 86) C 4 h6_4 dX5_count_6 (by decide) (by decide) rfl (by decide) ?_
            refine gj_aload_n C dX5_count_86 0 rfl ?_
            refine mj_getR (kf := 23) (j := 14) C K dX5_count_87 (by decide) (by decide) rfl (by decide) q1894 rfl ?_
            refine gj_iconst C dX5_count_90 ?_
            refine mj_iald (j := 14) C K dX5_count_91 (by decide) rfl (fun v91 => ?_)
            exact mj_iret C hQ hr dX5_count_92
          · refine gj_neg h6_4 ?_
            by_cases h6_5 : w32 a1 = 5
            · refine gj_pos h6_5 ?_
              refine gj_tin (tgt := 93) C 5 h6_5 dX5_count_6 (by decide) (by decide) rfl (by decide) ?_
              refine gj_aload_n C dX5_count_93 0 rfl ?_
              refine mj_getR (kf := 23) (j := 14) C K dX5_count_94 (by decide) (by decide) rfl (by decide) q1894 rfl ?_
              refine gj_iconst C dX5_count_97 ?_
              refine mj_iald (j := 14) C K dX5_count_98 (by decide) rfl (fun v98 => ?_)
              exact mj_iret C hQ hr dX5_count_99
            · refine gj_neg h6_5 ?_
              by_cases h6_6 : w32 a1 = 6
              · refine gj_pos h6_6 ?_
                refine gj_tin (tgt := 100) C 6 h6_6 dX5_count_6 (by decide) (by decide) rfl (by decide) ?_
                refine gj_aload_n C dX5_count_100 0 rfl ?_
                refine mj_getR (kf := 23) (j := 14) C K dX5_count_101 (by decide) (by decide) rfl (by decide) q1894 rfl ?_
                refine gj_iconst C dX5_count_104 ?_
                refine mj_iald (j := 14) C K dX5_count_105 (by decide) rfl (fun v105 => ?_)
                exact mj_iret C hQ hr dX5_count_106
              · refine gj_neg h6_6 ?_
                by_cases h6_7 : w32 a1 = 7
                · refine gj_pos h6_7 ?_
                  refine gj_tin (tgt := 107) C 7 h6_7 dX5_count_6 (by decide) (by decide) rfl (by decide) ?_
                  refine gj_aload_n C dX5_count_107 0 rfl ?_
                  refine gj_iconst C dX5_count_108 ?_
                  refine mj_callVI (As := [.int (iI 0)]) (rest := []) C K dX5_count_109 (met5_pursesOf (cx_l X) g 0) (lw_V q2382 q2384 qs122 q134 q2385) hy5_pursesOf hR (Nat.le_of_ble_eq_true rfl) (by decide) rfl rfl (Nat.zero_le _) (fun v109 => ?_)
                  exact mj_iret C hQ hr dX5_count_112
                · refine gj_neg h6_7 ?_
                  by_cases h6_8 : w32 a1 = 8
                  · refine gj_pos h6_8 ?_
                    refine gj_tin (tgt := 113) C 8 h6_8 dX5_count_6 (by decide) (by decide) rfl (by decide) ?_
                    refine gj_aload_n C dX5_count_113 0 rfl ?_
                    refine mj_callVI (As := []) (rest := []) C K dX5_count_114 (met5_debtsOf (cx_l X) g) (lw_V q2394 q2396 qs123 q134 q2397) hy5_debtsOf hR (Nat.le_of_ble_eq_true rfl) (by decide) rfl rfl (Nat.zero_le _) (fun v114 => ?_)
                    exact mj_iret C hQ hr dX5_count_117
                  · refine gj_neg h6_8 ?_
                    by_cases h6_9 : w32 a1 = 9
                    · refine gj_pos h6_9 ?_
                      refine gj_tin (tgt := 118) C 9 h6_9 dX5_count_6 (by decide) (by decide) rfl (by decide) ?_
                      refine gj_aload_n C dX5_count_118 0 rfl ?_
                      refine mj_getR (kf := 20) (j := 11) C K dX5_count_119 (by decide) (by decide) rfl (by decide) q1891 rfl ?_
                      refine gj_iconst C dX5_count_122 ?_
                      refine mj_iald (j := 11) C K dX5_count_123 (by decide) rfl (fun v123 => ?_)
                      exact mj_iret C hQ hr dX5_count_124
                    · refine gj_neg h6_9 ?_
                      by_cases h6_10 : w32 a1 = 10
                      · refine gj_pos h6_10 ?_
                        refine gj_tin (tgt := 125) C 10 h6_10 dX5_count_6 (by decide) (by decide) rfl (by decide) ?_
                        refine gj_aload_n C dX5_count_125 0 rfl ?_
                        refine mj_getR (kf := 23) (j := 14) C K dX5_count_126 (by decide) (by decide) rfl (by decide) q1894 rfl ?_
                        refine gj_bipush C dX5_count_129 rfl ?_
                        refine mj_iald (j := 14) C K dX5_count_131 (by decide) rfl (fun v131 => ?_)
                        exact mj_iret C hQ hr dX5_count_132
                      · refine gj_neg h6_10 ?_
                        by_cases h6_11 : w32 a1 = 11
                        · refine gj_pos h6_11 ?_
                          refine gj_tin (tgt := 133) C 11 h6_11 dX5_count_6 (by decide) (by decide) rfl (by decide) ?_
                          refine gj_aload_n C dX5_count_133 0 rfl ?_
                          refine mj_getI (kf := 24) C K dX5_count_134 (by decide) (by decide) rfl q1895 rfl (fun v134 => ?_)
                          exact mj_iret C hQ hr dX5_count_137
                        · refine gj_neg h6_11 ?_
                          by_cases h6_12 : w32 a1 = 12
                          · refine gj_pos h6_12 ?_
                            refine gj_tin (tgt := 138) C 12 h6_12 dX5_count_6 (by decide) (by decide) rfl (by decide) ?_
                            refine gj_aload_n C dX5_count_138 0 rfl ?_
                            refine mj_getI (kf := 2) C K dX5_count_139 (by decide) (by decide) rfl q1873 rfl (fun v139 => ?_)
                            exact mj_iret C hQ hr dX5_count_142
                          · refine gj_neg h6_12 ?_
                            refine gj_tout (tgt := 143) C dX5_count_6 (by omega) (by decide) ?_
                            refine gj_iconst C dX5_count_143 ?_
                            exact mj_iret C hQ hr dX5_count_144
