/-! THE MODEL: its methods as pure programs, and that the machine runs so (thrown, lay, feed, standsAsAlways, mayBe, people, lotsFrom, findLots, personOf, starts, begins, isDigit, isLetter, isSignOf, rank, cutAll, isWord, find, wordHere, isName, wrong): printed by gen.py -/
def m5_thrown : MM Int :=
  pbnd (mget 0) fun v1 =>
  pret v1
set_option maxHeartbeats 4000000 in
set_option maxRecDepth 100000 in
theorem met5_thrown (l : Launch) (g : MG) : MMet l g yX5_thrown cX5_thrown 1 (Option.some Jvm.ClassFile.FieldType.int) (0) [.ref (g.2.2)] (m5_thrown) rvI := by
  refine mj_start (by decide +kernel) rfl (Nat.le_of_ble_eq_true rfl) (fun X Q hl C K hQ hR hr => ?_)
  subst hl
  show GJ X 1 (mWo g (cx_s X).heap) Q (m5_thrown) 0 [(0, .ref (g.2.2))] []
  unfold m5_thrown
  refine gj_aload_n C dX5_thrown_0 0 rfl ?_
  refine mj_getI (kf := 0) C K dX5_thrown_1 (by decide) (by decide) rfl q1871 rfl (fun v1 => ?_)
  exact mj_iret C hQ hr dX5_thrown_4
def m5_lay_j69 (a1 a3 : Int) (bk3 : (Int) → MM Unit) : MM Unit :=
  bk3 (a3 + (-8))
def m5_lay_j38 (a1 a3 a4 : Int) (bk3 : (Int) → MM Unit) : MM Unit :=
  pbnd (mget 2) fun v39 =>
  pite (w32 v39 < 1000) (
    pbnd (mget 2) fun v53 =>
    pbnd (mwr 1 1000 v53 (w32 a4)) fun _ =>
    pbnd (mget 2) fun v61 =>
    pbnd (mput 2 (w32 (v61 + 1))) fun _ =>
    m5_lay_j69 a1 a3 bk3) (
    m5_lay_j69 a1 a3 bk3)
def m5_lay_b3 (a1 : Int) (a3 : Int) (bk3 : (Int) → MM Unit) : MM Unit :=
  pite (w32 a3 < 0) (
    pret ()) (
    plet (zand (zl2i (lshr' a1 a3)) 255) fun x15 =>
    pite (w32 x15 = 10) (
      m5_lay_j38 a1 a3 x15 bk3) (
      pite (w32 x15 < 32) (
        m5_lay_j69 a1 a3 bk3) (
        pite (126 < w32 x15) (
          m5_lay_j69 a1 a3 bk3) (
          m5_lay_j38 a1 a3 x15 bk3))))
def m5_lay_l3 (a1 a3 : Int) : MM Unit :=
  ploop (fun (s : (Int)) bk3 => m5_lay_b3 a1 s bk3) (a3)
def m5_lay (a1 : Int) : MM Unit :=
  m5_lay_l3 a1 56
set_option maxHeartbeats 4000000 in
set_option maxRecDepth 100000 in
theorem met5_lay (l : Launch) (g : MG) (a1 : Int) : MMet l g yX5_lay cX5_lay 5 (Option.none : Option Jvm.ClassFile.FieldType) (0) [.ref (g.2.2), .long (iL a1)] (m5_lay a1) rvV := by
  refine mj_start (by decide +kernel) rfl (Nat.le_of_ble_eq_true rfl) (fun X Q hl C K hQ hR hr => ?_)
  subst hl
  show GJ X 5 (mWo g (cx_s X).heap) Q (m5_lay a1) 0 [(0, .ref (g.2.2)), (1, .long (iL a1))] []
  have J3 : ∀ (a1 a3 : Int), GJ X 5 (mWo g (cx_s X).heap) Q (m5_lay_l3 a1 a3) 3 [(0, .ref (g.2.2)), (1, .long (iL a1)), (3, .int (iI a3))] [] := by
    intro a1 a3
    unfold m5_lay_l3
    refine gj_loop (fun (s : (Int)) => [(0, .ref (g.2.2)), (1, .long (iL a1)), (3, .int (iI s))]) (a3) (fun bk3 hb3 s => ?_)
    obtain ⟨a3, rfl⟩ : ∃ z, z = s := ⟨s, rfl⟩
    show GJ X 5 (mWo g (cx_s X).heap) Q (m5_lay_b3 a1 a3 bk3) 3 [(0, .ref (g.2.2)), (1, .long (iL a1)), (3, .int (iI a3))] []
    have J69 : ∀ (a3 : Int), GJ X 5 (mWo g (cx_s X).heap) Q (m5_lay_j69 a1 a3 bk3) 69 [(0, .ref (g.2.2)), (1, .long (iL a1)), (3, .int (iI a3))] [] := by
      intro a3
      unfold m5_lay_j69
      refine gj_iinc (L' := [(3, _), (0, _), (1, _)]) C dX5_lay_69 2 rfl (by decide) rfl ?_
      refine gj_goto (tgt := 3) C dX5_lay_72 (by decide) ?_
      exact gj_to [1, 2, 0] (hb3 (a3 + (-8))) rfl
    have J38 : ∀ (a3 a4 : Int), GJ X 5 (mWo g (cx_s X).heap) Q (m5_lay_j38 a1 a3 a4 bk3) 38 [(0, .ref (g.2.2)), (1, .long (iL a1)), (3, .int (iI a3)), (4, .int (iI a4))] [] := by
      intro a3 a4
      unfold m5_lay_j38
      refine gj_aload_n C dX5_lay_38 0 rfl ?_
      refine mj_getI (kf := 2) C K dX5_lay_39 (by decide) (by decide) rfl q1873 rfl (fun v39 => ?_)
      refine gj_sipush C dX5_lay_42 rfl ?_
      refine gj_icmp_ge (tgt := 69) (b' := 1000) C dX5_lay_45 (by decide) rfl (by decide) (fun h45 => gj_neg h45 ?_) (fun h45 => gj_pos h45 ?_)
      · exact gj_to [0, 1, 2] (J69 a3) rfl
      · refine gj_aload_n C dX5_lay_48 0 rfl ?_
        refine mj_getR (kf := 1) (j := 1) C K dX5_lay_49 (by decide) (by decide) rfl (by decide) q1872 rfl ?_
        refine gj_aload_n C dX5_lay_52 0 rfl ?_
        refine mj_getI (kf := 2) C K dX5_lay_53 (by decide) (by decide) rfl q1873 rfl (fun v53 => ?_)
        refine gj_iload C dX5_lay_56 3 rfl ?_
        refine gj_nrmI ?_
        refine mj_iast (j := 1) C K dX5_lay_58 (by decide) (by decide) rfl ?_
        refine gj_aload_n C dX5_lay_59 0 rfl ?_
        refine gj_dup C dX5_lay_60 rfl ?_
        refine mj_getI (kf := 2) C K dX5_lay_61 (by decide) (by decide) rfl q1873 rfl (fun v61 => ?_)
        refine gj_iconst C dX5_lay_64 ?_
        refine gj_iadd C dX5_lay_65 ?_
        refine gj_nrmI ?_
        refine mj_putI (kf := 2) C K dX5_lay_66 (by decide) (by decide) rfl q1873 rfl rfl (by decide +kernel) ?_
        exact gj_to [0, 1, 2] (J69 a3) rfl
    unfold m5_lay_b3
    refine gj_iload_n C dX5_lay_3 2 rfl ?_
    refine gj_if_lt (tgt := 75) C dX5_lay_4 (by decide) (fun h4 => gj_pos h4 ?_) (fun h4 => gj_neg h4 ?_)
    · exact mj_vret C hQ hr dX5_lay_75
    · refine gj_lload_n C dX5_lay_7 1 rfl ?_
      refine gj_iload_n C dX5_lay_8 2 rfl ?_
      refine gj_lshr C dX5_lay_9 ?_
      refine gj_l2i C dX5_lay_10 ?_
      refine gj_sipush C dX5_lay_11 rfl ?_
      refine gj_iand C dX5_lay_14 ?_
      refine gj_let (fun x15 => ?_)
      refine gj_istore (L' := [(4, _), (0, _), (1, _), (3, _)]) C dX5_lay_15 (by decide) rfl ?_
      refine gj_iload C dX5_lay_17 0 rfl ?_
      refine gj_bipush C dX5_lay_19 rfl ?_
      refine gj_icmp_eq (tgt := 38) (b' := 10) C dX5_lay_21 (by decide) rfl (by decide) (fun h21 => gj_pos h21 ?_) (fun h21 => gj_neg h21 ?_)
      · exact gj_to [1, 2, 3, 0] (J38 a3 x15) rfl
      · refine gj_iload C dX5_lay_24 0 rfl ?_
        refine gj_bipush C dX5_lay_26 rfl ?_
        refine gj_icmp_lt (tgt := 69) (b' := 32) C dX5_lay_28 (by decide) rfl (by decide) (fun h28 => gj_pos h28 ?_) (fun h28 => gj_neg h28 ?_)
        · exact gj_to [1, 2, 3] (J69 a3) rfl
        · refine gj_iload C dX5_lay_31 0 rfl ?_
          refine gj_bipush C dX5_lay_33 rfl ?_
          refine gj_icmp_gt (tgt := 69) (b' := 126) C dX5_lay_35 (by decide) rfl (by decide) (fun h35 => gj_pos h35 ?_) (fun h35 => gj_neg h35 ?_)
          · exact gj_to [1, 2, 3] (J69 a3) rfl
          · exact gj_to [1, 2, 3, 0] (J38 a3 x15) rfl
  unfold m5_lay
  refine gj_bipush C dX5_lay_0 rfl ?_
  refine gj_istore_n (L' := [(3, _), (0, _), (1, _)]) C dX5_lay_2 (by decide) rfl ?_
  exact gj_to [1, 2, 0] (J3 a1 56) rfl
def m5_feed (a1 a3 a5 : Int) : MM Int :=
  pbnd (mput 0 0) fun _ =>
  pbnd (m5_lay a1) fun _ =>
  pbnd (m5_lay a3) fun _ =>
  pbnd (m5_lay a5) fun _ =>
  pbnd (mget 2) fun v22 =>
  pret v22
set_option maxHeartbeats 4000000 in
set_option maxRecDepth 100000 in
theorem met5_feed (l : Launch) (g : MG) (a1 a3 a5 : Int) : MMet l g yX5_feed cX5_feed 7 (Option.some Jvm.ClassFile.FieldType.int) (1) [.ref (g.2.2), .long (iL a1), .long (iL a3), .long (iL a5)] (m5_feed a1 a3 a5) rvI := by
  refine mj_start (by decide +kernel) rfl (Nat.le_of_ble_eq_true rfl) (fun X Q hl C K hQ hR hr => ?_)
  subst hl
  show GJ X 7 (mWo g (cx_s X).heap) Q (m5_feed a1 a3 a5) 0 [(0, .ref (g.2.2)), (1, .long (iL a1)), (3, .long (iL a3)), (5, .long (iL a5))] []
  unfold m5_feed
  refine gj_aload_n C dX5_feed_0 0 rfl ?_
  refine gj_iconst C dX5_feed_1 ?_
  refine mj_putI (kf := 0) C K dX5_feed_2 (by decide) (by decide) rfl q1871 rfl rfl (by decide +kernel) ?_
  refine gj_aload_n C dX5_feed_5 0 rfl ?_
  refine gj_lload_n C dX5_feed_6 1 rfl ?_
  refine mj_callVV (As := [.long (iL a1)]) (rest := []) C K dX5_feed_7 (met5_lay (cx_l X) g a1) (lw_V q1802 q1804 qs51 q134 q1806) hy5_lay hR (Nat.le_of_ble_eq_true rfl) (by decide) rfl rfl (Nat.zero_le _) ?_
  refine gj_aload_n C dX5_feed_10 0 rfl ?_
  refine gj_lload_n C dX5_feed_11 2 rfl ?_
  refine mj_callVV (As := [.long (iL a3)]) (rest := []) C K dX5_feed_12 (met5_lay (cx_l X) g a3) (lw_V q1802 q1804 qs51 q134 q1806) hy5_lay hR (Nat.le_of_ble_eq_true rfl) (by decide) rfl rfl (Nat.zero_le _) ?_
  refine gj_aload_n C dX5_feed_15 0 rfl ?_
  refine gj_lload C dX5_feed_16 3 rfl ?_
  refine mj_callVV (As := [.long (iL a5)]) (rest := []) C K dX5_feed_18 (met5_lay (cx_l X) g a5) (lw_V q1802 q1804 qs51 q134 q1806) hy5_lay hR (Nat.le_of_ble_eq_true rfl) (by decide) rfl rfl (Nat.zero_le _) ?_
  refine gj_aload_n C dX5_feed_21 0 rfl ?_
  refine mj_getI (kf := 2) C K dX5_feed_22 (by decide) (by decide) rfl q1873 rfl (fun v22 => ?_)
  exact mj_iret C hQ hr dX5_feed_25
def m5_standsAsAlways_b35 (a1 : Int) (a2 : Int) (bk35 : (Int) → MM Unit) : MM Unit :=
  pite (w32 a2 < 4) (
    pbnd (mwr 6 160 (((a1 + 3)) + a2) (-1)) fun _ =>
    bk35 (a2 + 1)) (
    pret ())
def m5_standsAsAlways_l35 (a1 a2 : Int) : MM Unit :=
  ploop (fun (s : (Int)) bk35 => m5_standsAsAlways_b35 a1 s bk35) (a2)
def m5_standsAsAlways_b2 (a1 : Int) (a2 : Int) (bk2 : (Int) → MM Unit) : MM Unit :=
  pite (w32 a2 < 80) (
    pbnd (mwr 6 160 (a1 + a2) 0) fun _ =>
    bk2 (a2 + 1)) (
    pbnd (mwr 6 160 (a1 + 2) 50) fun _ =>
    m5_standsAsAlways_l35 a1 0)
def m5_standsAsAlways_l2 (a1 a2 : Int) : MM Unit :=
  ploop (fun (s : (Int)) bk2 => m5_standsAsAlways_b2 a1 s bk2) (a2)
def m5_standsAsAlways (a1 : Int) : MM Unit :=
  m5_standsAsAlways_l2 a1 0
set_option maxHeartbeats 4000000 in
set_option maxRecDepth 100000 in
theorem met5_standsAsAlways (l : Launch) (g : MG) (a1 : Int) : MMet l g yX5_standsAsAlways cX5_standsAsAlways 3 (Option.none : Option Jvm.ClassFile.FieldType) (0) [.ref (g.2.2), .int (iI a1)] (m5_standsAsAlways a1) rvV := by
  refine mj_start (by decide +kernel) rfl (Nat.le_of_ble_eq_true rfl) (fun X Q hl C K hQ hR hr => ?_)
  subst hl
  show GJ X 3 (mWo g (cx_s X).heap) Q (m5_standsAsAlways a1) 0 [(0, .ref (g.2.2)), (1, .int (iI a1))] []
  have J35 : ∀ (a1 a2 : Int), GJ X 3 (mWo g (cx_s X).heap) Q (m5_standsAsAlways_l35 a1 a2) 35 [(0, .ref (g.2.2)), (1, .int (iI a1)), (2, .int (iI a2))] [] := by
    intro a1 a2
    unfold m5_standsAsAlways_l35
    refine gj_loop (fun (s : (Int)) => [(0, .ref (g.2.2)), (1, .int (iI a1)), (2, .int (iI s))]) (a2) (fun bk35 hb35 s => ?_)
    obtain ⟨a2, rfl⟩ : ∃ z, z = s := ⟨s, rfl⟩
    show GJ X 3 (mWo g (cx_s X).heap) Q (m5_standsAsAlways_b35 a1 a2 bk35) 35 [(0, .ref (g.2.2)), (1, .int (iI a1)), (2, .int (iI a2))] []
    unfold m5_standsAsAlways_b35
    refine gj_iload_n C dX5_standsAsAlways_35 2 rfl ?_
    refine gj_iconst C dX5_standsAsAlways_36 ?_
    refine gj_icmp_ge (tgt := 57) (b' := 4) C dX5_standsAsAlways_37 (by decide) rfl (by decide) (fun h37 => gj_neg h37 ?_) (fun h37 => gj_pos h37 ?_)
    · exact mj_vret C hQ hr dX5_standsAsAlways_57
    · refine gj_aload_n C dX5_standsAsAlways_40 0 rfl ?_
      refine mj_getR (kf := 10) (j := 6) C K dX5_standsAsAlways_41 (by decide) (by decide) rfl (by decide) q1881 rfl ?_
      refine gj_iload_n C dX5_standsAsAlways_44 1 rfl ?_
      refine gj_iconst C dX5_standsAsAlways_45 ?_
      refine gj_iadd C dX5_standsAsAlways_46 ?_
      refine gj_iload_n C dX5_standsAsAlways_47 2 rfl ?_
      refine gj_iadd C dX5_standsAsAlways_48 ?_
      refine gj_iconst C dX5_standsAsAlways_49 ?_
      refine mj_iast (j := 6) C K dX5_standsAsAlways_50 (by decide) (by decide) rfl ?_
      refine gj_iinc (L' := [(2, _), (0, _), (1, _)]) C dX5_standsAsAlways_51 2 rfl (by decide) rfl ?_
      refine gj_goto (tgt := 35) C dX5_standsAsAlways_54 (by decide) ?_
      exact gj_to [1, 2, 0] (hb35 (a2 + 1)) rfl
  have J2 : ∀ (a1 a2 : Int), GJ X 3 (mWo g (cx_s X).heap) Q (m5_standsAsAlways_l2 a1 a2) 2 [(0, .ref (g.2.2)), (1, .int (iI a1)), (2, .int (iI a2))] [] := by
    intro a1 a2
    unfold m5_standsAsAlways_l2
    refine gj_loop (fun (s : (Int)) => [(0, .ref (g.2.2)), (1, .int (iI a1)), (2, .int (iI s))]) (a2) (fun bk2 hb2 s => ?_)
    obtain ⟨a2, rfl⟩ : ∃ z, z = s := ⟨s, rfl⟩
    show GJ X 3 (mWo g (cx_s X).heap) Q (m5_standsAsAlways_b2 a1 a2 bk2) 2 [(0, .ref (g.2.2)), (1, .int (iI a1)), (2, .int (iI a2))] []
    unfold m5_standsAsAlways_b2
    refine gj_iload_n C dX5_standsAsAlways_2 2 rfl ?_
    refine gj_bipush C dX5_standsAsAlways_3 rfl ?_
    refine gj_icmp_ge (tgt := 23) (b' := 80) C dX5_standsAsAlways_5 (by decide) rfl (by decide) (fun h5 => gj_neg h5 ?_) (fun h5 => gj_pos h5 ?_)
    · refine gj_aload_n C dX5_standsAsAlways_23 0 rfl ?_
      refine mj_getR (kf := 10) (j := 6) C K dX5_standsAsAlways_24 (by decide) (by decide) rfl (by decide) q1881 rfl ?_
      refine gj_iload_n C dX5_standsAsAlways_27 1 rfl ?_
      refine gj_iconst C dX5_standsAsAlways_28 ?_
      refine gj_iadd C dX5_standsAsAlways_29 ?_
      refine gj_bipush C dX5_standsAsAlways_30 rfl ?_
      refine mj_iast (j := 6) C K dX5_standsAsAlways_32 (by decide) (by decide) rfl ?_
      refine gj_iconst C dX5_standsAsAlways_33 ?_
      refine gj_istore_n (L' := [(2, _), (0, _), (1, _)]) C dX5_standsAsAlways_34 (by decide) rfl ?_
      exact gj_to [1, 2, 0] (J35 a1 0) rfl
    · refine gj_aload_n C dX5_standsAsAlways_8 0 rfl ?_
      refine mj_getR (kf := 10) (j := 6) C K dX5_standsAsAlways_9 (by decide) (by decide) rfl (by decide) q1881 rfl ?_
      refine gj_iload_n C dX5_standsAsAlways_12 1 rfl ?_
      refine gj_iload_n C dX5_standsAsAlways_13 2 rfl ?_
      refine gj_iadd C dX5_standsAsAlways_14 ?_
      refine gj_iconst C dX5_standsAsAlways_15 ?_
      refine mj_iast (j := 6) C K dX5_standsAsAlways_16 (by decide) (by decide) rfl ?_
      refine gj_iinc (L' := [(2, _), (0, _), (1, _)]) C dX5_standsAsAlways_17 2 rfl (by decide) rfl ?_
      refine gj_goto (tgt := 2) C dX5_standsAsAlways_20 (by decide) ?_
      exact gj_to [1, 2, 0] (hb2 (a2 + 1)) rfl
  unfold m5_standsAsAlways
  refine gj_iconst C dX5_standsAsAlways_0 ?_
  refine gj_istore_n (L' := [(2, _), (0, _), (1, _)]) C dX5_standsAsAlways_1 (by decide) rfl ?_
  exact gj_to [1, 2, 0] (J2 a1 0) rfl
def m5_mayBe (a1 a2 : Int) : MM Int :=
  pite (w32 a1 = w32 a2) (
    pbnd (pzo 0) fun _ => pret 0) (
    pbnd (mrd 6 160 (((38 + ((6 * a1)))) + a2)) fun v18 =>
    pite (w32 v18 = 0) (
      pbnd (pzo 1) fun _ => pret 1) (
      pbnd (pzo 0) fun _ => pret 0))
set_option maxHeartbeats 4000000 in
set_option maxRecDepth 100000 in
theorem met5_mayBe (l : Launch) (g : MG) (a1 a2 : Int) : MMet l g yX5_mayBe cX5_mayBe 3 (Option.some Jvm.ClassFile.FieldType.boolean) (0) [.ref (g.2.2), .int (iI a1), .int (iI a2)] (m5_mayBe a1 a2) rvI := by
  refine mj_start (by decide +kernel) rfl (Nat.le_of_ble_eq_true rfl) (fun X Q hl C K hQ hR hr => ?_)
  subst hl
  show GJ X 3 (mWo g (cx_s X).heap) Q (m5_mayBe a1 a2) 0 [(0, .ref (g.2.2)), (1, .int (iI a1)), (2, .int (iI a2))] []
  unfold m5_mayBe
  refine gj_iload_n C dX5_mayBe_0 1 rfl ?_
  refine gj_iload_n C dX5_mayBe_1 2 rfl ?_
  refine gj_icmp_eq (tgt := 26) C dX5_mayBe_2 (by decide) rfl rfl (fun h2 => gj_pos h2 ?_) (fun h2 => gj_neg h2 ?_)
  · refine gj_iconst C dX5_mayBe_26 ?_
    exact mj_zret C hQ hr dX5_mayBe_27
  · refine gj_aload_n C dX5_mayBe_5 0 rfl ?_
    refine mj_getR (kf := 10) (j := 6) C K dX5_mayBe_6 (by decide) (by decide) rfl (by decide) q1881 rfl ?_
    refine gj_bipush C dX5_mayBe_9 rfl ?_
    refine gj_bipush C dX5_mayBe_11 rfl ?_
    refine gj_iload_n C dX5_mayBe_13 1 rfl ?_
    refine gj_imul C dX5_mayBe_14 ?_
    refine gj_iadd C dX5_mayBe_15 ?_
    refine gj_iload_n C dX5_mayBe_16 2 rfl ?_
    refine gj_iadd C dX5_mayBe_17 ?_
    refine mj_iald (j := 6) C K dX5_mayBe_18 (by decide) rfl (fun v18 => ?_)
    refine gj_if_ne (tgt := 26) C dX5_mayBe_19 (by decide) (fun h19 => gj_neg h19 ?_) (fun h19 => gj_pos h19 ?_)
    · refine gj_iconst C dX5_mayBe_26 ?_
      exact mj_zret C hQ hr dX5_mayBe_27
    · refine gj_iconst C dX5_mayBe_22 ?_
      refine gj_goto (tgt := 27) C dX5_mayBe_23 (by decide) ?_
      exact mj_zret C hQ hr dX5_mayBe_27
def m5_people : MM Int :=
  pbnd (mrd 6 160 0) fun v5 =>
  pret v5
set_option maxHeartbeats 4000000 in
set_option maxRecDepth 100000 in
theorem met5_people (l : Launch) (g : MG) : MMet l g yX5_people cX5_people 1 (Option.some Jvm.ClassFile.FieldType.int) (0) [.ref (g.2.2)] (m5_people) rvI := by
  refine mj_start (by decide +kernel) rfl (Nat.le_of_ble_eq_true rfl) (fun X Q hl C K hQ hR hr => ?_)
  subst hl
  show GJ X 1 (mWo g (cx_s X).heap) Q (m5_people) 0 [(0, .ref (g.2.2))] []
  unfold m5_people
  refine gj_aload_n C dX5_people_0 0 rfl ?_
  refine mj_getR (kf := 10) (j := 6) C K dX5_people_1 (by decide) (by decide) rfl (by decide) q1881 rfl ?_
  refine gj_iconst C dX5_people_4 ?_
  refine mj_iald (j := 6) C K dX5_people_5 (by decide) rfl (fun v5 => ?_)
  exact mj_iret C hQ hr dX5_people_6
def m5_lotsFrom_s_j110 (self : Int → Int → MM Unit) (a1 a2 a3 : Int) (bk66 : (Int) → MM Unit) : MM Unit :=
  bk66 (a3 + 1)
def m5_lotsFrom_s_b66 (self : Int → Int → MM Unit) (a1 a2 : Int) (a3 : Int) (bk66 : (Int) → MM Unit) : MM Unit :=
  pbnd (m5_people) fun v68 =>
  pite (w32 a3 < w32 v68) (
    pite (w32 (zand (zshr a2 a3) 1) = 0) (
      pbnd (m5_mayBe a3 a1) fun v85 =>
      pite (w32 v85 = 0) (
        m5_lotsFrom_s_j110 self a1 a2 a3 bk66) (
        pbnd (mwr 17 6 a1 (w32 a3)) fun _ =>
        pbnd (self (a1 + 1) (zor a2 (zshl 1 a3))) fun _ =>
        m5_lotsFrom_s_j110 self a1 a2 a3 bk66)) (
      m5_lotsFrom_s_j110 self a1 a2 a3 bk66)) (
    pret ())
def m5_lotsFrom_s_l66 (self : Int → Int → MM Unit) (a1 a2 a3 : Int) : MM Unit :=
  ploop (fun (s : (Int)) bk66 => m5_lotsFrom_s_b66 self a1 a2 s bk66) (a3)
def m5_lotsFrom_s_b20 (self : Int → Int → MM Unit) (a1 : Int) (a3 : Int) (bk20 : (Int) → MM Unit) : MM Unit :=
  pite (w32 a3 < w32 a1) (
    pbnd (mget 29) fun v30 =>
    pbnd (mrd 16 265 v30) fun v34 =>
    pbnd (mrd 17 6 a3) fun v40 =>
    pbnd (mwr 16 265 v30 (zor v34 (zshl v40 ((3 * a3))))) fun _ =>
    bk20 (a3 + 1)) (
    pbnd (mget 29) fun v55 =>
    pbnd (mput 29 (w32 (v55 + 1))) fun _ =>
    pret ())
def m5_lotsFrom_s_l20 (self : Int → Int → MM Unit) (a1 a3 : Int) : MM Unit :=
  ploop (fun (s : (Int)) bk20 => m5_lotsFrom_s_b20 self a1 s bk20) (a3)
def m5_lotsFrom_s (self : Int → Int → MM Unit) (a1 a2 : Int) : MM Unit :=
  pbnd (m5_people) fun v2 =>
  pite (w32 a1 = w32 v2) (
    pbnd (mget 29) fun v13 =>
    pbnd (mwr 16 265 v13 0) fun _ =>
    m5_lotsFrom_s_l20 self a1 0) (
    m5_lotsFrom_s_l66 self a1 a2 0)
set_option maxHeartbeats 4000000 in
set_option maxRecDepth 100000 in
theorem met5_lotsFrom_s (l : Launch) (g : MG) {kS : Nat} (hkS : 10 ≤ kS) {self : Int → Int → MM Unit} (hS : ∀ a1 a2 : Int, MMet l g yX5_lotsFrom cX5_lotsFrom 4 (Option.none : Option Jvm.ClassFile.FieldType) (kS) [.ref g.2.2, .int (iI a1), .int (iI a2)] (self a1 a2) rvV) (a1 a2 : Int) : MMet l g yX5_lotsFrom cX5_lotsFrom 4 (Option.none : Option Jvm.ClassFile.FieldType) (kS + 1) [.ref (g.2.2), .int (iI a1), .int (iI a2)] (m5_lotsFrom_s self a1 a2) rvV := by
  refine mj_start (by decide +kernel) rfl (Nat.le_of_ble_eq_true rfl) (fun X Q hl C K hQ hR hr => ?_)
  subst hl
  show GJ X 4 (mWo g (cx_s X).heap) Q (m5_lotsFrom_s self a1 a2) 0 [(0, .ref (g.2.2)), (1, .int (iI a1)), (2, .int (iI a2))] []
  have J66 : ∀ (a1 a2 a3 : Int), GJ X 4 (mWo g (cx_s X).heap) Q (m5_lotsFrom_s_l66 self a1 a2 a3) 66 [(0, .ref (g.2.2)), (1, .int (iI a1)), (2, .int (iI a2)), (3, .int (iI a3))] [] := by
    intro a1 a2 a3
    unfold m5_lotsFrom_s_l66
    refine gj_loop (fun (s : (Int)) => [(0, .ref (g.2.2)), (1, .int (iI a1)), (2, .int (iI a2)), (3, .int (iI s))]) (a3) (fun bk66 hb66 s => ?_)
    obtain ⟨a3, rfl⟩ : ∃ z, z = s := ⟨s, rfl⟩
    show GJ X 4 (mWo g (cx_s X).heap) Q (m5_lotsFrom_s_b66 self a1 a2 a3 bk66) 66 [(0, .ref (g.2.2)), (1, .int (iI a1)), (2, .int (iI a2)), (3, .int (iI a3))] []
    have J110 : ∀ (a3 : Int), GJ X 4 (mWo g (cx_s X).heap) Q (m5_lotsFrom_s_j110 self a1 a2 a3 bk66) 110 [(0, .ref (g.2.2)), (1, .int (iI a1)), (2, .int (iI a2)), (3, .int (iI a3))] [] := by
      intro a3
      unfold m5_lotsFrom_s_j110
      refine gj_iinc (L' := [(3, _), (0, _), (1, _), (2, _)]) C dX5_lotsFrom_110 3 rfl (by decide) rfl ?_
      refine gj_goto (tgt := 66) C dX5_lotsFrom_113 (by decide) ?_
      exact gj_to [1, 2, 3, 0] (hb66 (a3 + 1)) rfl
    unfold m5_lotsFrom_s_b66
    refine gj_iload_n C dX5_lotsFrom_66 3 rfl ?_
    refine gj_aload_n C dX5_lotsFrom_67 0 rfl ?_
    refine mj_callVI (As := []) (rest := [.int (iI a3)]) C K dX5_lotsFrom_68 (met5_people (cx_l X) g) (lw_V q1851 q1853 qs55 q134 q1854) hy5_people hR (by omega) (by decide) rfl rfl (Nat.le_of_ble_eq_true rfl) (fun v68 => ?_)
    refine gj_icmp_ge (tgt := 116) C dX5_lotsFrom_71 (by decide) rfl rfl (fun h71 => gj_neg h71 ?_) (fun h71 => gj_pos h71 ?_)
    · exact mj_vret C hQ hr dX5_lotsFrom_116
    · refine gj_iload_n C dX5_lotsFrom_74 2 rfl ?_
      refine gj_iload_n C dX5_lotsFrom_75 3 rfl ?_
      refine gj_ishr C dX5_lotsFrom_76 ?_
      refine gj_iconst C dX5_lotsFrom_77 ?_
      refine gj_iand C dX5_lotsFrom_78 ?_
      refine gj_if_ne (tgt := 110) C dX5_lotsFrom_79 (by decide) (fun h79 => gj_neg h79 ?_) (fun h79 => gj_pos h79 ?_)
      · exact gj_to [0, 1, 2, 3] (J110 a3) rfl
      · refine gj_aload_n C dX5_lotsFrom_82 0 rfl ?_
        refine gj_iload_n C dX5_lotsFrom_83 3 rfl ?_
        refine gj_iload_n C dX5_lotsFrom_84 1 rfl ?_
        refine mj_callVI (As := [.int (iI a3), .int (iI a1)]) (rest := []) C K dX5_lotsFrom_85 (met5_mayBe (cx_l X) g a3 a1) (lw_V q1867 q1869 qs59 q134 q1870) hy5_mayBe hR (by omega) (by decide) rfl rfl (Nat.zero_le _) (fun v85 => ?_)
        refine gj_if_eq (tgt := 110) C dX5_lotsFrom_88 (by decide) (fun h88 => gj_pos h88 ?_) (fun h88 => gj_neg h88 ?_)
        · exact gj_to [0, 1, 2, 3] (J110 a3) rfl
        · refine gj_aload_n C dX5_lotsFrom_91 0 rfl ?_
          refine mj_getR (kf := 28) (j := 17) C K dX5_lotsFrom_92 (by decide) (by decide) rfl (by decide) q1899 rfl ?_
          refine gj_iload_n C dX5_lotsFrom_95 1 rfl ?_
          refine gj_iload_n C dX5_lotsFrom_96 3 rfl ?_
          refine gj_nrmI ?_
          refine mj_iast (j := 17) C K dX5_lotsFrom_97 (by decide) (by decide) rfl ?_
          refine gj_aload_n C dX5_lotsFrom_98 0 rfl ?_
          refine gj_iload_n C dX5_lotsFrom_99 1 rfl ?_
          refine gj_iconst C dX5_lotsFrom_100 ?_
          refine gj_iadd C dX5_lotsFrom_101 ?_
          refine gj_iload_n C dX5_lotsFrom_102 2 rfl ?_
          refine gj_iconst C dX5_lotsFrom_103 ?_
          refine gj_iload_n C dX5_lotsFrom_104 3 rfl ?_
          refine gj_ishl C dX5_lotsFrom_105 ?_
          refine gj_ior C dX5_lotsFrom_106 ?_
          refine mj_callVV (As := [.int (iI ((a1 + 1))), .int (iI (zor a2 (zshl 1 a3)))]) (rest := []) C K dX5_lotsFrom_107 (hS (a1 + 1) (zor a2 (zshl 1 a3))) (lw_V q1863 q1865 qs58 q134 q1866) hy5_lotsFrom hR (by omega) (by decide) rfl rfl (Nat.zero_le _) ?_
          exact gj_to [0, 1, 2, 3] (J110 a3) rfl
  have J20 : ∀ (a1 a3 : Int), GJ X 4 (mWo g (cx_s X).heap) Q (m5_lotsFrom_s_l20 self a1 a3) 20 [(0, .ref (g.2.2)), (1, .int (iI a1)), (3, .int (iI a3))] [] := by
    intro a1 a3
    unfold m5_lotsFrom_s_l20
    refine gj_loop (fun (s : (Int)) => [(0, .ref (g.2.2)), (1, .int (iI a1)), (3, .int (iI s))]) (a3) (fun bk20 hb20 s => ?_)
    obtain ⟨a3, rfl⟩ : ∃ z, z = s := ⟨s, rfl⟩
    show GJ X 4 (mWo g (cx_s X).heap) Q (m5_lotsFrom_s_b20 self a1 a3 bk20) 20 [(0, .ref (g.2.2)), (1, .int (iI a1)), (3, .int (iI a3))] []
    unfold m5_lotsFrom_s_b20
    refine gj_iload_n C dX5_lotsFrom_20 2 rfl ?_
    refine gj_iload_n C dX5_lotsFrom_21 1 rfl ?_
    refine gj_icmp_ge (tgt := 53) C dX5_lotsFrom_22 (by decide) rfl rfl (fun h22 => gj_neg h22 ?_) (fun h22 => gj_pos h22 ?_)
    · refine gj_aload_n C dX5_lotsFrom_53 0 rfl ?_
      refine gj_dup C dX5_lotsFrom_54 rfl ?_
      refine mj_getI (kf := 29) C K dX5_lotsFrom_55 (by decide) (by decide) rfl q1900 rfl (fun v55 => ?_)
      refine gj_iconst C dX5_lotsFrom_58 ?_
      refine gj_iadd C dX5_lotsFrom_59 ?_
      refine gj_nrmI ?_
      refine mj_putI (kf := 29) C K dX5_lotsFrom_60 (by decide) (by decide) rfl q1900 rfl rfl (by decide +kernel) ?_
      exact mj_vret C hQ hr dX5_lotsFrom_63
    · refine gj_aload_n C dX5_lotsFrom_25 0 rfl ?_
      refine mj_getR (kf := 27) (j := 16) C K dX5_lotsFrom_26 (by decide) (by decide) rfl (by decide) q1898 rfl ?_
      refine gj_aload_n C dX5_lotsFrom_29 0 rfl ?_
      refine mj_getI (kf := 29) C K dX5_lotsFrom_30 (by decide) (by decide) rfl q1900 rfl (fun v30 => ?_)
      refine gj_dup2 C dX5_lotsFrom_33 rfl rfl ?_
      refine mj_iald (j := 16) C K dX5_lotsFrom_34 (by decide) rfl (fun v34 => ?_)
      refine gj_aload_n C dX5_lotsFrom_35 0 rfl ?_
      refine mj_getR (kf := 28) (j := 17) C K dX5_lotsFrom_36 (by decide) (by decide) rfl (by decide) q1899 rfl ?_
      refine gj_iload_n C dX5_lotsFrom_39 2 rfl ?_
      refine mj_iald (j := 17) C K dX5_lotsFrom_40 (by decide) rfl (fun v40 => ?_)
      refine gj_iconst C dX5_lotsFrom_41 ?_
      refine gj_iload_n C dX5_lotsFrom_42 2 rfl ?_
      refine gj_imul C dX5_lotsFrom_43 ?_
      refine gj_ishl C dX5_lotsFrom_44 ?_
      refine gj_ior C dX5_lotsFrom_45 ?_
      refine mj_iast (j := 16) C K dX5_lotsFrom_46 (by decide) (by decide) rfl ?_
      refine gj_iinc (L' := [(3, _), (0, _), (1, _)]) C dX5_lotsFrom_47 2 rfl (by decide) rfl ?_
      refine gj_goto (tgt := 20) C dX5_lotsFrom_50 (by decide) ?_
      exact gj_to [1, 2, 0] (hb20 (a3 + 1)) rfl
  unfold m5_lotsFrom_s
  refine gj_iload_n C dX5_lotsFrom_0 1 rfl ?_
  refine gj_aload_n C dX5_lotsFrom_1 0 rfl ?_
  refine mj_callVI (As := []) (rest := [.int (iI a1)]) C K dX5_lotsFrom_2 (met5_people (cx_l X) g) (lw_V q1851 q1853 qs55 q134 q1854) hy5_people hR (by omega) (by decide) rfl rfl (Nat.le_of_ble_eq_true rfl) (fun v2 => ?_)
  refine gj_icmp_ne (tgt := 64) C dX5_lotsFrom_5 (by decide) rfl rfl (fun h5 => gj_neg h5 ?_) (fun h5 => gj_pos h5 ?_)
  · refine gj_iconst C dX5_lotsFrom_64 ?_
    refine gj_istore_n (L' := [(3, _), (0, _), (1, _), (2, _)]) C dX5_lotsFrom_65 (by decide) rfl ?_
    exact gj_to [1, 2, 3, 0] (J66 a1 a2 0) rfl
  · refine gj_aload_n C dX5_lotsFrom_8 0 rfl ?_
    refine mj_getR (kf := 27) (j := 16) C K dX5_lotsFrom_9 (by decide) (by decide) rfl (by decide) q1898 rfl ?_
    refine gj_aload_n C dX5_lotsFrom_12 0 rfl ?_
    refine mj_getI (kf := 29) C K dX5_lotsFrom_13 (by decide) (by decide) rfl q1900 rfl (fun v13 => ?_)
    refine gj_iconst C dX5_lotsFrom_16 ?_
    refine mj_iast (j := 16) C K dX5_lotsFrom_17 (by decide) (by decide) rfl ?_
    refine gj_iconst C dX5_lotsFrom_18 ?_
    refine gj_istore_n (L' := [(3, _), (0, _), (1, _), (2, _)]) C dX5_lotsFrom_19 (by decide) rfl ?_
    exact gj_to [1, 2, 0] (J20 a1 0) rfl
def m5_lotsFrom : Nat → Int → Int → MM Unit
  | 0, _, _ => pfail
  | n + 1, a1, a2 => m5_lotsFrom_s (m5_lotsFrom n) a1 a2
theorem met5_lotsFrom (l : Launch) (g : MG) : ∀ (n : Nat) (a1 a2 : Int), MMet l g yX5_lotsFrom cX5_lotsFrom 4 (Option.none : Option Jvm.ClassFile.FieldType) (10 + n) [.ref g.2.2, .int (iI a1), .int (iI a2)] (m5_lotsFrom n a1 a2) rvV := by
  intro n
  induction n with
  | zero => intro a1 a2 Q σ h; exact h.elim
  | succ n ih => intro a1 a2; exact met5_lotsFrom_s l g (by omega) ih a1 a2
def m5_findLots : MM Unit :=
  pbnd (mput 29 0) fun _ =>
  pbnd (m5_people) fun v6 =>
  pite (0 < w32 v6) (
    pbnd (m5_lotsFrom 10 0 0) fun _ =>
    pret ()) (
    pret ())
set_option maxHeartbeats 4000000 in
set_option maxRecDepth 100000 in
theorem met5_findLots (l : Launch) (g : MG) : MMet l g yX5_findLots cX5_findLots 1 (Option.none : Option Jvm.ClassFile.FieldType) (21) [.ref (g.2.2)] (m5_findLots) rvV := by
  refine mj_start (by decide +kernel) rfl (Nat.le_of_ble_eq_true rfl) (fun X Q hl C K hQ hR hr => ?_)
  subst hl
  show GJ X 1 (mWo g (cx_s X).heap) Q (m5_findLots) 0 [(0, .ref (g.2.2))] []
  unfold m5_findLots
  refine gj_aload_n C dX5_findLots_0 0 rfl ?_
  refine gj_iconst C dX5_findLots_1 ?_
  refine mj_putI (kf := 29) C K dX5_findLots_2 (by decide) (by decide) rfl q1900 rfl rfl (by decide +kernel) ?_
  refine gj_aload_n C dX5_findLots_5 0 rfl ?_
  refine mj_callVI (As := []) (rest := []) C K dX5_findLots_6 (met5_people (cx_l X) g) (lw_V q1851 q1853 qs55 q134 q1854) hy5_people hR (Nat.le_of_ble_eq_true rfl) (by decide) rfl rfl (Nat.zero_le _) (fun v6 => ?_)
  refine gj_if_le (tgt := 18) C dX5_findLots_9 (by decide) (fun h9 => gj_neg h9 ?_) (fun h9 => gj_pos h9 ?_)
  · exact mj_vret C hQ hr dX5_findLots_18
  · refine gj_aload_n C dX5_findLots_12 0 rfl ?_
    refine gj_iconst C dX5_findLots_13 ?_
    refine gj_iconst C dX5_findLots_14 ?_
    refine mj_callVV (As := [.int (iI 0), .int (iI 0)]) (rest := []) C K dX5_findLots_15 (met5_lotsFrom (cx_l X) g 10 0 0) (lw_V q1863 q1865 qs58 q134 q1866) hy5_lotsFrom hR (Nat.le_of_ble_eq_true rfl) (by decide) rfl rfl (Nat.zero_le _) ?_
    exact mj_vret C hQ hr dX5_findLots_18
def m5_personOf (a1 a2 : Int) : MM Int :=
  pbnd (mrd 6 160 (((8 + ((5 * a1)))) + a2)) fun v12 =>
  pret v12
set_option maxHeartbeats 4000000 in
set_option maxRecDepth 100000 in
theorem met5_personOf (l : Launch) (g : MG) (a1 a2 : Int) : MMet l g yX5_personOf cX5_personOf 3 (Option.some Jvm.ClassFile.FieldType.int) (0) [.ref (g.2.2), .int (iI a1), .int (iI a2)] (m5_personOf a1 a2) rvI := by
  refine mj_start (by decide +kernel) rfl (Nat.le_of_ble_eq_true rfl) (fun X Q hl C K hQ hR hr => ?_)
  subst hl
  show GJ X 3 (mWo g (cx_s X).heap) Q (m5_personOf a1 a2) 0 [(0, .ref (g.2.2)), (1, .int (iI a1)), (2, .int (iI a2))] []
  unfold m5_personOf
  refine gj_aload_n C dX5_personOf_0 0 rfl ?_
  refine mj_getR (kf := 10) (j := 6) C K dX5_personOf_1 (by decide) (by decide) rfl (by decide) q1881 rfl ?_
  refine gj_bipush C dX5_personOf_4 rfl ?_
  refine gj_iconst C dX5_personOf_6 ?_
  refine gj_iload_n C dX5_personOf_7 1 rfl ?_
  refine gj_imul C dX5_personOf_8 ?_
  refine gj_iadd C dX5_personOf_9 ?_
  refine gj_iload_n C dX5_personOf_10 2 rfl ?_
  refine gj_iadd C dX5_personOf_11 ?_
  refine mj_iald (j := 6) C K dX5_personOf_12 (by decide) rfl (fun v12 => ?_)
  exact mj_iret C hQ hr dX5_personOf_13
def m5_starts_b25 (a1 : Int) (a2 : Int) (bk25 : (Int) → MM Unit) : MM Unit :=
  pbnd (m5_people) fun v27 =>
  pite (w32 a2 < w32 v27) (
    pbnd (m5_personOf a2 2) fun v45 =>
    pbnd (mwr 14 1656 (((a1 + 4)) + a2) v45) fun _ =>
    pbnd (m5_personOf a2 3) fun v62 =>
    pbnd (mwr 14 1656 (((a1 + 10)) + a2) v62) fun _ =>
    pbnd (m5_personOf a2 4) fun v79 =>
    pbnd (mwr 14 1656 (((a1 + 16)) + a2) v79) fun _ =>
    pbnd (mwr 14 1656 (((a1 + 28)) + a2) (w32 a2)) fun _ =>
    bk25 (a2 + 1)) (
    pret ())
def m5_starts_l25 (a1 a2 : Int) : MM Unit :=
  ploop (fun (s : (Int)) bk25 => m5_starts_b25 a1 s bk25) (a2)
def m5_starts_b2 (a1 : Int) (a2 : Int) (bk2 : (Int) → MM Unit) : MM Unit :=
  pite (w32 a2 < 46) (
    pbnd (mwr 14 1656 (a1 + a2) 0) fun _ =>
    bk2 (a2 + 1)) (
    m5_starts_l25 a1 0)
def m5_starts_l2 (a1 a2 : Int) : MM Unit :=
  ploop (fun (s : (Int)) bk2 => m5_starts_b2 a1 s bk2) (a2)
def m5_starts (a1 : Int) : MM Unit :=
  m5_starts_l2 a1 0
set_option maxHeartbeats 4000000 in
set_option maxRecDepth 100000 in
theorem met5_starts (l : Launch) (g : MG) (a1 : Int) : MMet l g yX5_starts cX5_starts 3 (Option.none : Option Jvm.ClassFile.FieldType) (1) [.ref (g.2.2), .int (iI a1)] (m5_starts a1) rvV := by
  refine mj_start (by decide +kernel) rfl (Nat.le_of_ble_eq_true rfl) (fun X Q hl C K hQ hR hr => ?_)
  subst hl
  show GJ X 3 (mWo g (cx_s X).heap) Q (m5_starts a1) 0 [(0, .ref (g.2.2)), (1, .int (iI a1))] []
  have J25 : ∀ (a1 a2 : Int), GJ X 3 (mWo g (cx_s X).heap) Q (m5_starts_l25 a1 a2) 25 [(0, .ref (g.2.2)), (1, .int (iI a1)), (2, .int (iI a2))] [] := by
    intro a1 a2
    unfold m5_starts_l25
    refine gj_loop (fun (s : (Int)) => [(0, .ref (g.2.2)), (1, .int (iI a1)), (2, .int (iI s))]) (a2) (fun bk25 hb25 s => ?_)
    obtain ⟨a2, rfl⟩ : ∃ z, z = s := ⟨s, rfl⟩
    show GJ X 3 (mWo g (cx_s X).heap) Q (m5_starts_b25 a1 a2 bk25) 25 [(0, .ref (g.2.2)), (1, .int (iI a1)), (2, .int (iI a2))] []
    unfold m5_starts_b25
    refine gj_iload_n C dX5_starts_25 2 rfl ?_
    refine gj_aload_n C dX5_starts_26 0 rfl ?_
    refine mj_callVI (As := []) (rest := [.int (iI a2)]) C K dX5_starts_27 (met5_people (cx_l X) g) (lw_V q1851 q1853 qs55 q134 q1854) hy5_people hR (Nat.le_of_ble_eq_true rfl) (by decide) rfl rfl (Nat.le_of_ble_eq_true rfl) (fun v27 => ?_)
    refine gj_icmp_ge (tgt := 101) C dX5_starts_30 (by decide) rfl rfl (fun h30 => gj_neg h30 ?_) (fun h30 => gj_pos h30 ?_)
    · exact mj_vret C hQ hr dX5_starts_101
    · refine gj_aload_n C dX5_starts_33 0 rfl ?_
      refine mj_getR (kf := 23) (j := 14) C K dX5_starts_34 (by decide) (by decide) rfl (by decide) q1894 rfl ?_
      refine gj_iload_n C dX5_starts_37 1 rfl ?_
      refine gj_iconst C dX5_starts_38 ?_
      refine gj_iadd C dX5_starts_39 ?_
      refine gj_iload_n C dX5_starts_40 2 rfl ?_
      refine gj_iadd C dX5_starts_41 ?_
      refine gj_aload_n C dX5_starts_42 0 rfl ?_
      refine gj_iload_n C dX5_starts_43 2 rfl ?_
      refine gj_iconst C dX5_starts_44 ?_
      refine mj_callVI (As := [.int (iI a2), .int (iI 2)]) (rest := [.int (iI ((((a1 + 4)) + a2))), .ref (g.2.2 + 14)]) C K dX5_starts_45 (met5_personOf (cx_l X) g a2 2) (lw_V q1855 q1857 qs56 q134 q1858) hy5_personOf hR (Nat.le_of_ble_eq_true rfl) (by decide) rfl rfl (Nat.le_of_ble_eq_true rfl) (fun v45 => ?_)
      refine mj_iast (j := 14) C K dX5_starts_48 (by decide) (by decide) rfl ?_
      refine gj_aload_n C dX5_starts_49 0 rfl ?_
      refine mj_getR (kf := 23) (j := 14) C K dX5_starts_50 (by decide) (by decide) rfl (by decide) q1894 rfl ?_
      refine gj_iload_n C dX5_starts_53 1 rfl ?_
      refine gj_bipush C dX5_starts_54 rfl ?_
      refine gj_iadd C dX5_starts_56 ?_
      refine gj_iload_n C dX5_starts_57 2 rfl ?_
      refine gj_iadd C dX5_starts_58 ?_
      refine gj_aload_n C dX5_starts_59 0 rfl ?_
      refine gj_iload_n C dX5_starts_60 2 rfl ?_
      refine gj_iconst C dX5_starts_61 ?_
      refine mj_callVI (As := [.int (iI a2), .int (iI 3)]) (rest := [.int (iI ((((a1 + 10)) + a2))), .ref (g.2.2 + 14)]) C K dX5_starts_62 (met5_personOf (cx_l X) g a2 3) (lw_V q1855 q1857 qs56 q134 q1858) hy5_personOf hR (Nat.le_of_ble_eq_true rfl) (by decide) rfl rfl (Nat.le_of_ble_eq_true rfl) (fun v62 => ?_)
      refine mj_iast (j := 14) C K dX5_starts_65 (by decide) (by decide) rfl ?_
      refine gj_aload_n C dX5_starts_66 0 rfl ?_
      refine mj_getR (kf := 23) (j := 14) C K dX5_starts_67 (by decide) (by decide) rfl (by decide) q1894 rfl ?_
      refine gj_iload_n C dX5_starts_70 1 rfl ?_
      refine gj_bipush C dX5_starts_71 rfl ?_
      refine gj_iadd C dX5_starts_73 ?_
      refine gj_iload_n C dX5_starts_74 2 rfl ?_
      refine gj_iadd C dX5_starts_75 ?_
      refine gj_aload_n C dX5_starts_76 0 rfl ?_
      refine gj_iload_n C dX5_starts_77 2 rfl ?_
      refine gj_iconst C dX5_starts_78 ?_
      refine mj_callVI (As := [.int (iI a2), .int (iI 4)]) (rest := [.int (iI ((((a1 + 16)) + a2))), .ref (g.2.2 + 14)]) C K dX5_starts_79 (met5_personOf (cx_l X) g a2 4) (lw_V q1855 q1857 qs56 q134 q1858) hy5_personOf hR (Nat.le_of_ble_eq_true rfl) (by decide) rfl rfl (Nat.le_of_ble_eq_true rfl) (fun v79 => ?_)
      refine mj_iast (j := 14) C K dX5_starts_82 (by decide) (by decide) rfl ?_
      refine gj_aload_n C dX5_starts_83 0 rfl ?_
      refine mj_getR (kf := 23) (j := 14) C K dX5_starts_84 (by decide) (by decide) rfl (by decide) q1894 rfl ?_
      refine gj_iload_n C dX5_starts_87 1 rfl ?_
      refine gj_bipush C dX5_starts_88 rfl ?_
      refine gj_iadd C dX5_starts_90 ?_
      refine gj_iload_n C dX5_starts_91 2 rfl ?_
      refine gj_iadd C dX5_starts_92 ?_
      refine gj_iload_n C dX5_starts_93 2 rfl ?_
      refine gj_nrmI ?_
      refine mj_iast (j := 14) C K dX5_starts_94 (by decide) (by decide) rfl ?_
      refine gj_iinc (L' := [(2, _), (0, _), (1, _)]) C dX5_starts_95 2 rfl (by decide) rfl ?_
      refine gj_goto (tgt := 25) C dX5_starts_98 (by decide) ?_
      exact gj_to [1, 2, 0] (hb25 (a2 + 1)) rfl
  have J2 : ∀ (a1 a2 : Int), GJ X 3 (mWo g (cx_s X).heap) Q (m5_starts_l2 a1 a2) 2 [(0, .ref (g.2.2)), (1, .int (iI a1)), (2, .int (iI a2))] [] := by
    intro a1 a2
    unfold m5_starts_l2
    refine gj_loop (fun (s : (Int)) => [(0, .ref (g.2.2)), (1, .int (iI a1)), (2, .int (iI s))]) (a2) (fun bk2 hb2 s => ?_)
    obtain ⟨a2, rfl⟩ : ∃ z, z = s := ⟨s, rfl⟩
    show GJ X 3 (mWo g (cx_s X).heap) Q (m5_starts_b2 a1 a2 bk2) 2 [(0, .ref (g.2.2)), (1, .int (iI a1)), (2, .int (iI a2))] []
    unfold m5_starts_b2
    refine gj_iload_n C dX5_starts_2 2 rfl ?_
    refine gj_bipush C dX5_starts_3 rfl ?_
    refine gj_icmp_ge (tgt := 23) (b' := 46) C dX5_starts_5 (by decide) rfl (by decide) (fun h5 => gj_neg h5 ?_) (fun h5 => gj_pos h5 ?_)
    · refine gj_iconst C dX5_starts_23 ?_
      refine gj_istore_n (L' := [(2, _), (0, _), (1, _)]) C dX5_starts_24 (by decide) rfl ?_
      exact gj_to [1, 2, 0] (J25 a1 0) rfl
    · refine gj_aload_n C dX5_starts_8 0 rfl ?_
      refine mj_getR (kf := 23) (j := 14) C K dX5_starts_9 (by decide) (by decide) rfl (by decide) q1894 rfl ?_
      refine gj_iload_n C dX5_starts_12 1 rfl ?_
      refine gj_iload_n C dX5_starts_13 2 rfl ?_
      refine gj_iadd C dX5_starts_14 ?_
      refine gj_iconst C dX5_starts_15 ?_
      refine mj_iast (j := 14) C K dX5_starts_16 (by decide) (by decide) rfl ?_
      refine gj_iinc (L' := [(2, _), (0, _), (1, _)]) C dX5_starts_17 2 rfl (by decide) rfl ?_
      refine gj_goto (tgt := 2) C dX5_starts_20 (by decide) ?_
      exact gj_to [1, 2, 0] (hb2 (a2 + 1)) rfl
  unfold m5_starts
  refine gj_iconst C dX5_starts_0 ?_
  refine gj_istore_n (L' := [(2, _), (0, _), (1, _)]) C dX5_starts_1 (by decide) rfl ?_
  exact gj_to [1, 2, 0] (J2 a1 0) rfl
def m5_begins_b37 (a1 : Int) (bk37 : (Int) → MM Unit) : MM Unit :=
  pite (w32 a1 < 4) (
    pbnd (mwrz 15 4 a1 0) fun _ =>
    bk37 (a1 + 1)) (
    pbnd (m5_findLots) fun _ =>
    pret ())
def m5_begins_l37 (a1 : Int) : MM Unit :=
  ploop (fun (s : (Int)) bk37 => m5_begins_b37 s bk37) (a1)
def m5_begins : MM Unit :=
  pbnd (mrd 6 160 2) fun v6 =>
  pbnd (mput 26 v6) fun _ =>
  pbnd (m5_starts 0) fun _ =>
  pbnd (mwr 14 1656 46 0) fun _ =>
  pbnd (mwr 11 250 0 0) fun _ =>
  pbnd (mput 24 0) fun _ =>
  m5_begins_l37 0
set_option maxHeartbeats 4000000 in
set_option maxRecDepth 100000 in
theorem met5_begins (l : Launch) (g : MG) : MMet l g yX5_begins cX5_begins 2 (Option.none : Option Jvm.ClassFile.FieldType) (22) [.ref (g.2.2)] (m5_begins) rvV := by
  refine mj_start (by decide +kernel) rfl (Nat.le_of_ble_eq_true rfl) (fun X Q hl C K hQ hR hr => ?_)
  subst hl
  show GJ X 2 (mWo g (cx_s X).heap) Q (m5_begins) 0 [(0, .ref (g.2.2))] []
  have J37 : ∀ (a1 : Int), GJ X 2 (mWo g (cx_s X).heap) Q (m5_begins_l37 a1) 37 [(0, .ref (g.2.2)), (1, .int (iI a1))] [] := by
    intro a1
    unfold m5_begins_l37
    refine gj_loop (fun (s : (Int)) => [(0, .ref (g.2.2)), (1, .int (iI s))]) (a1) (fun bk37 hb37 s => ?_)
    obtain ⟨a1, rfl⟩ : ∃ z, z = s := ⟨s, rfl⟩
    show GJ X 2 (mWo g (cx_s X).heap) Q (m5_begins_b37 a1 bk37) 37 [(0, .ref (g.2.2)), (1, .int (iI a1))] []
    unfold m5_begins_b37
    refine gj_iload_n C dX5_begins_37 1 rfl ?_
    refine gj_iconst C dX5_begins_38 ?_
    refine gj_icmp_ge (tgt := 55) (b' := 4) C dX5_begins_39 (by decide) rfl (by decide) (fun h39 => gj_neg h39 ?_) (fun h39 => gj_pos h39 ?_)
    · refine gj_aload_n C dX5_begins_55 0 rfl ?_
      refine mj_callVV (As := []) (rest := []) C K dX5_begins_56 (met5_findLots (cx_l X) g) (lw_V q1859 q1861 qs57 q134 q1862) hy5_findLots hR (Nat.le_of_ble_eq_true rfl) (by decide) rfl rfl (Nat.zero_le _) ?_
      exact mj_vret C hQ hr dX5_begins_59
    · refine gj_aload_n C dX5_begins_42 0 rfl ?_
      refine mj_getR (kf := 25) (j := 15) C K dX5_begins_43 (by decide) (by decide) rfl (by decide) q1896 rfl ?_
      refine gj_iload_n C dX5_begins_46 1 rfl ?_
      refine gj_iconst C dX5_begins_47 ?_
      refine mj_zast (j := 15) C K dX5_begins_48 (by decide) (by decide) rfl ?_
      refine gj_iinc (L' := [(1, _), (0, _)]) C dX5_begins_49 1 rfl (by decide) rfl ?_
      refine gj_goto (tgt := 37) C dX5_begins_52 (by decide) ?_
      exact gj_to [1, 0] (hb37 (a1 + 1)) rfl
  unfold m5_begins
  refine gj_aload_n C dX5_begins_0 0 rfl ?_
  refine gj_aload_n C dX5_begins_1 0 rfl ?_
  refine mj_getR (kf := 10) (j := 6) C K dX5_begins_2 (by decide) (by decide) rfl (by decide) q1881 rfl ?_
  refine gj_iconst C dX5_begins_5 ?_
  refine mj_iald (j := 6) C K dX5_begins_6 (by decide) rfl (fun v6 => ?_)
  refine mj_putI (kf := 26) C K dX5_begins_7 (by decide) (by decide) rfl q1897 rfl rfl (by decide +kernel) ?_
  refine gj_aload_n C dX5_begins_10 0 rfl ?_
  refine gj_iconst C dX5_begins_11 ?_
  refine mj_callVV (As := [.int (iI 0)]) (rest := []) C K dX5_begins_12 (met5_starts (cx_l X) g 0) (lw_V q1847 q1849 qs54 q134 q1850) hy5_starts hR (Nat.le_of_ble_eq_true rfl) (by decide) rfl rfl (Nat.zero_le _) ?_
  refine gj_aload_n C dX5_begins_15 0 rfl ?_
  refine mj_getR (kf := 23) (j := 14) C K dX5_begins_16 (by decide) (by decide) rfl (by decide) q1894 rfl ?_
  refine gj_bipush C dX5_begins_19 rfl ?_
  refine gj_iconst C dX5_begins_21 ?_
  refine mj_iast (j := 14) C K dX5_begins_22 (by decide) (by decide) rfl ?_
  refine gj_aload_n C dX5_begins_23 0 rfl ?_
  refine mj_getR (kf := 20) (j := 11) C K dX5_begins_24 (by decide) (by decide) rfl (by decide) q1891 rfl ?_
  refine gj_iconst C dX5_begins_27 ?_
  refine gj_iconst C dX5_begins_28 ?_
  refine mj_iast (j := 11) C K dX5_begins_29 (by decide) (by decide) rfl ?_
  refine gj_aload_n C dX5_begins_30 0 rfl ?_
  refine gj_iconst C dX5_begins_31 ?_
  refine mj_putI (kf := 24) C K dX5_begins_32 (by decide) (by decide) rfl q1895 rfl rfl (by decide +kernel) ?_
  refine gj_iconst C dX5_begins_35 ?_
  refine gj_istore_n (L' := [(1, _), (0, _)]) C dX5_begins_36 (by decide) rfl ?_
  exact gj_to [1, 0] (J37 0) rfl
def m5_isDigit (a0 : Int) : MM Int :=
  plet (if w32 a0 < 48 then 0 else if 57 < w32 a0 then 0 else 1) fun d17 =>
  pbnd (pzo d17) fun _ => pret d17
set_option maxHeartbeats 4000000 in
set_option maxRecDepth 100000 in
theorem met5_isDigit (l : Launch) (g : MG) (a0 : Int) : MMet l g yX5_isDigit cX5_isDigit 1 (Option.some Jvm.ClassFile.FieldType.boolean) (0) [.int (iI a0)] (m5_isDigit a0) rvI := by
  refine mj_start (by decide +kernel) rfl (Nat.le_of_ble_eq_true rfl) (fun X Q hl C K hQ hR hr => ?_)
  subst hl
  show GJ X 1 (mWo g (cx_s X).heap) Q (m5_isDigit a0) 0 [(0, .int (iI a0))] []
  unfold m5_isDigit
  refine gj_iload_n C dX5_isDigit_0 0 rfl ?_
  refine gj_bipush C dX5_isDigit_1 rfl ?_
  refine gj_dia (J := 17) (L := [(0, .int (iI a0))]) (st := []) (fun d17 => ?_) (fun t hJ => ?_)
  · skip
    exact mj_zret C hQ hr dX5_isDigit_17
  · refine gj_icmp_lt (tgt := 16) (b' := 48) C dX5_isDigit_3 (by decide) rfl (by decide) (fun h3 => ?_) (fun h3 => ?_)
    · refine gj_iconst C dX5_isDigit_16 ?_
      exact (by rw [if_pos h3] at hJ; exact hJ)
    · refine gj_iload_n C dX5_isDigit_6 0 rfl ?_
      refine gj_bipush C dX5_isDigit_7 rfl ?_
      refine gj_icmp_gt (tgt := 16) (b' := 57) C dX5_isDigit_9 (by decide) rfl (by decide) (fun h9 => ?_) (fun h9 => ?_)
      · refine gj_iconst C dX5_isDigit_16 ?_
        exact (by rw [if_neg h3, if_pos h9] at hJ; exact hJ)
      · refine gj_iconst C dX5_isDigit_12 ?_
        refine gj_goto (tgt := 17) C dX5_isDigit_13 (by decide) ?_
        exact (by rw [if_neg h3, if_neg h9] at hJ; exact hJ)
def m5_isLetter (a0 : Int) : MM Int :=
  plet (if w32 a0 < 97 then 0 else if 122 < w32 a0 then 0 else 1) fun d17 =>
  pbnd (pzo d17) fun _ => pret d17
set_option maxHeartbeats 4000000 in
set_option maxRecDepth 100000 in
theorem met5_isLetter (l : Launch) (g : MG) (a0 : Int) : MMet l g yX5_isLetter cX5_isLetter 1 (Option.some Jvm.ClassFile.FieldType.boolean) (0) [.int (iI a0)] (m5_isLetter a0) rvI := by
  refine mj_start (by decide +kernel) rfl (Nat.le_of_ble_eq_true rfl) (fun X Q hl C K hQ hR hr => ?_)
  subst hl
  show GJ X 1 (mWo g (cx_s X).heap) Q (m5_isLetter a0) 0 [(0, .int (iI a0))] []
  unfold m5_isLetter
  refine gj_iload_n C dX5_isLetter_0 0 rfl ?_
  refine gj_bipush C dX5_isLetter_1 rfl ?_
  refine gj_dia (J := 17) (L := [(0, .int (iI a0))]) (st := []) (fun d17 => ?_) (fun t hJ => ?_)
  · skip
    exact mj_zret C hQ hr dX5_isLetter_17
  · refine gj_icmp_lt (tgt := 16) (b' := 97) C dX5_isLetter_3 (by decide) rfl (by decide) (fun h3 => ?_) (fun h3 => ?_)
    · refine gj_iconst C dX5_isLetter_16 ?_
      exact (by rw [if_pos h3] at hJ; exact hJ)
    · refine gj_iload_n C dX5_isLetter_6 0 rfl ?_
      refine gj_bipush C dX5_isLetter_7 rfl ?_
      refine gj_icmp_gt (tgt := 16) (b' := 122) C dX5_isLetter_9 (by decide) rfl (by decide) (fun h9 => ?_) (fun h9 => ?_)
      · refine gj_iconst C dX5_isLetter_16 ?_
        exact (by rw [if_neg h3, if_pos h9] at hJ; exact hJ)
      · refine gj_iconst C dX5_isLetter_12 ?_
        refine gj_goto (tgt := 17) C dX5_isLetter_13 (by decide) ?_
        exact (by rw [if_neg h3, if_neg h9] at hJ; exact hJ)
def m5_isSignOf (a0 : Int) : MM Int :=
  plet (if w32 a0 = 40 then 1 else if w32 a0 = 41 then 1 else if w32 a0 = 59 then 1 else if w32 a0 = 61 then 1 else if w32 a0 = 60 then 1 else if w32 a0 = 43 then 1 else if w32 a0 = 45 then 1 else if w32 a0 = 42 then 1 else 0) fun d53 =>
  pbnd (pzo d53) fun _ => pret d53
set_option maxHeartbeats 4000000 in
set_option maxRecDepth 100000 in
theorem met5_isSignOf (l : Launch) (g : MG) (a0 : Int) : MMet l g yX5_isSignOf cX5_isSignOf 1 (Option.some Jvm.ClassFile.FieldType.boolean) (0) [.int (iI a0)] (m5_isSignOf a0) rvI := by
  refine mj_start (by decide +kernel) rfl (Nat.le_of_ble_eq_true rfl) (fun X Q hl C K hQ hR hr => ?_)
  subst hl
  show GJ X 1 (mWo g (cx_s X).heap) Q (m5_isSignOf a0) 0 [(0, .int (iI a0))] []
  unfold m5_isSignOf
  refine gj_iload_n C dX5_isSignOf_0 0 rfl ?_
  refine gj_bipush C dX5_isSignOf_1 rfl ?_
  refine gj_dia (J := 53) (L := [(0, .int (iI a0))]) (st := []) (fun d53 => ?_) (fun t hJ => ?_)
  · skip
    exact mj_zret C hQ hr dX5_isSignOf_53
  · refine gj_icmp_eq (tgt := 48) (b' := 40) C dX5_isSignOf_3 (by decide) rfl (by decide) (fun h3 => ?_) (fun h3 => ?_)
    · refine gj_iconst C dX5_isSignOf_48 ?_
      refine gj_goto (tgt := 53) C dX5_isSignOf_49 (by decide) ?_
      exact (by rw [if_pos h3] at hJ; exact hJ)
    · refine gj_iload_n C dX5_isSignOf_6 0 rfl ?_
      refine gj_bipush C dX5_isSignOf_7 rfl ?_
      refine gj_icmp_eq (tgt := 48) (b' := 41) C dX5_isSignOf_9 (by decide) rfl (by decide) (fun h9 => ?_) (fun h9 => ?_)
      · refine gj_iconst C dX5_isSignOf_48 ?_
        refine gj_goto (tgt := 53) C dX5_isSignOf_49 (by decide) ?_
        exact (by rw [if_neg h3, if_pos h9] at hJ; exact hJ)
      · refine gj_iload_n C dX5_isSignOf_12 0 rfl ?_
        refine gj_bipush C dX5_isSignOf_13 rfl ?_
        refine gj_icmp_eq (tgt := 48) (b' := 59) C dX5_isSignOf_15 (by decide) rfl (by decide) (fun h15 => ?_) (fun h15 => ?_)
        · refine gj_iconst C dX5_isSignOf_48 ?_
          refine gj_goto (tgt := 53) C dX5_isSignOf_49 (by decide) ?_
          exact (by rw [if_neg h3, if_neg h9, if_pos h15] at hJ; exact hJ)
        · refine gj_iload_n C dX5_isSignOf_18 0 rfl ?_
          refine gj_bipush C dX5_isSignOf_19 rfl ?_
          refine gj_icmp_eq (tgt := 48) (b' := 61) C dX5_isSignOf_21 (by decide) rfl (by decide) (fun h21 => ?_) (fun h21 => ?_)
          · refine gj_iconst C dX5_isSignOf_48 ?_
            refine gj_goto (tgt := 53) C dX5_isSignOf_49 (by decide) ?_
            exact (by rw [if_neg h3, if_neg h9, if_neg h15, if_pos h21] at hJ; exact hJ)
          · refine gj_iload_n C dX5_isSignOf_24 0 rfl ?_
            refine gj_bipush C dX5_isSignOf_25 rfl ?_
            refine gj_icmp_eq (tgt := 48) (b' := 60) C dX5_isSignOf_27 (by decide) rfl (by decide) (fun h27 => ?_) (fun h27 => ?_)
            · refine gj_iconst C dX5_isSignOf_48 ?_
              refine gj_goto (tgt := 53) C dX5_isSignOf_49 (by decide) ?_
              exact (by rw [if_neg h3, if_neg h9, if_neg h15, if_neg h21, if_pos h27] at hJ; exact hJ)
            · refine gj_iload_n C dX5_isSignOf_30 0 rfl ?_
              refine gj_bipush C dX5_isSignOf_31 rfl ?_
              refine gj_icmp_eq (tgt := 48) (b' := 43) C dX5_isSignOf_33 (by decide) rfl (by decide) (fun h33 => ?_) (fun h33 => ?_)
              · refine gj_iconst C dX5_isSignOf_48 ?_
                refine gj_goto (tgt := 53) C dX5_isSignOf_49 (by decide) ?_
                exact (by rw [if_neg h3, if_neg h9, if_neg h15, if_neg h21, if_neg h27, if_pos h33] at hJ; exact hJ)
              · refine gj_iload_n C dX5_isSignOf_36 0 rfl ?_
                refine gj_bipush C dX5_isSignOf_37 rfl ?_
                refine gj_icmp_eq (tgt := 48) (b' := 45) C dX5_isSignOf_39 (by decide) rfl (by decide) (fun h39 => ?_) (fun h39 => ?_)
                · refine gj_iconst C dX5_isSignOf_48 ?_
                  refine gj_goto (tgt := 53) C dX5_isSignOf_49 (by decide) ?_
                  exact (by rw [if_neg h3, if_neg h9, if_neg h15, if_neg h21, if_neg h27, if_neg h33, if_pos h39] at hJ; exact hJ)
                · refine gj_iload_n C dX5_isSignOf_42 0 rfl ?_
                  refine gj_bipush C dX5_isSignOf_43 rfl ?_
                  refine gj_icmp_ne (tgt := 52) (b' := 42) C dX5_isSignOf_45 (by decide) rfl (by decide) (fun h45 => ?_) (fun h45 => ?_)
                  · refine gj_iconst C dX5_isSignOf_52 ?_
                    exact (by rw [if_neg h3, if_neg h9, if_neg h15, if_neg h21, if_neg h27, if_neg h33, if_neg h39, if_neg h45] at hJ; exact hJ)
                  · refine gj_iconst C dX5_isSignOf_48 ?_
                    refine gj_goto (tgt := 53) C dX5_isSignOf_49 (by decide) ?_
                    exact (by rw [if_neg h3, if_neg h9, if_neg h15, if_neg h21, if_neg h27, if_neg h33, if_neg h39, if_pos h45] at hJ; exact hJ)
def m5_rank (a0 : Int) : MM Int :=
  pbnd (m5_isLetter a0) fun v1 =>
  plet (if w32 v1 = 0 then a0 - 21 else a0 - 96) fun d18 =>
  pret (w32 d18)
set_option maxHeartbeats 4000000 in
set_option maxRecDepth 100000 in
theorem met5_rank (l : Launch) (g : MG) (a0 : Int) : MMet l g yX5_rank cX5_rank 1 (Option.some Jvm.ClassFile.FieldType.int) (1) [.int (iI a0)] (m5_rank a0) rvI := by
  refine mj_start (by decide +kernel) rfl (Nat.le_of_ble_eq_true rfl) (fun X Q hl C K hQ hR hr => ?_)
  subst hl
  show GJ X 1 (mWo g (cx_s X).heap) Q (m5_rank a0) 0 [(0, .int (iI a0))] []
  unfold m5_rank
  refine gj_iload_n C dX5_rank_0 0 rfl ?_
  refine mj_callSI (As := [.int (iI a0)]) (rest := []) C K dX5_rank_1 (met5_isLetter (cx_l X) g a0) (lw_S q2011 q2012 q134 q2013) hy5s_isLetter hR (Nat.le_of_ble_eq_true rfl) (by decide) rfl rfl (Nat.zero_le _) (fun v1 => ?_)
  refine gj_dia (J := 18) (L := [(0, .int (iI a0))]) (st := []) (fun d18 => ?_) (fun t hJ => ?_)
  · skip
    refine gj_nrmI ?_
    exact mj_iret C hQ hr dX5_rank_18
  · refine gj_if_eq (tgt := 14) C dX5_rank_4 (by decide) (fun h4 => ?_) (fun h4 => ?_)
    · refine gj_iload_n C dX5_rank_14 0 rfl ?_
      refine gj_bipush C dX5_rank_15 rfl ?_
      refine gj_isub C dX5_rank_17 ?_
      exact (by rw [if_pos h4] at hJ; exact hJ)
    · refine gj_iload_n C dX5_rank_7 0 rfl ?_
      refine gj_bipush C dX5_rank_8 rfl ?_
      refine gj_isub C dX5_rank_10 ?_
      refine gj_goto (tgt := 18) C dX5_rank_11 (by decide) ?_
      exact (by rw [if_neg h4] at hJ; exact hJ)
def m5_cutAll_j44 (a1 a2 : Int) (bk17 : (Int × Int) → MM Unit) : MM Unit :=
  bk17 (a1, a2 + 1)
def m5_cutAll_j265 (a1 a2 a5 : Int) (bk17 : (Int × Int) → MM Unit) : MM Unit :=
  pbnd (mwr 4 1002 a1 (w64 a5)) fun _ =>
  bk17 (a1 + 1, a2)
def m5_cutAll_j218 (a1 a2 a4 a5 : Int) (bk17 : (Int × Int) → MM Unit) : MM Unit :=
  plet (if 4 < w32 ((a2 - a4)) then 4 else 2) fun d236 =>
  pbnd (mwr 2 1002 a1 (w32 d236)) fun _ =>
  m5_cutAll_j265 a1 a2 a5 bk17
def m5_cutAll_j210 (a1 a2 a4 s0 : Int) (bk17 : (Int × Int) → MM Unit) (bk159 : (Int × Int) → MM Unit) : MM Unit :=
  bk159 (a2 + 1, s0)
def m5_cutAll_b159 (a1 a4 : Int) (bk17 : (Int × Int) → MM Unit) (a2 a5 : Int) (bk159 : (Int × Int) → MM Unit) : MM Unit :=
  pbnd (mget 3) fun v161 =>
  pite (w32 a2 < w32 v161) (
    pbnd (mrd 1 1000 a2) fun v172 =>
    pbnd (m5_isDigit v172) fun v173 =>
    pite (w32 v173 = 0) (
      m5_cutAll_j218 a1 a2 a4 a5 bk17) (
      pite (w32 ((a2 - a4)) < 4) (
        pbnd (mrd 1 1000 a2) fun v198 =>
        m5_cutAll_j210 a1 a2 a4 (((((10 * a5)) + (zi2l v198))) - 48) bk17 bk159) (
        m5_cutAll_j210 a1 a2 a4 a5 bk17 bk159))) (
    m5_cutAll_j218 a1 a2 a4 a5 bk17)
def m5_cutAll_l159 (a1 a2 a4 a5 : Int) (bk17 : (Int × Int) → MM Unit) : MM Unit :=
  ploop (fun (s : (Int × Int)) bk159 => m5_cutAll_b159 a1 a4 bk17 s.1 s.2 bk159) (a2, a5)
def m5_cutAll_j129 (a1 a2 a4 a5 : Int) (bk17 : (Int × Int) → MM Unit) : MM Unit :=
  plet (if 8 < w32 ((a2 - a4)) then 4 else 1) fun d148 =>
  pbnd (mwr 2 1002 a1 (w32 d148)) fun _ =>
  m5_cutAll_j265 a1 a2 a5 bk17
def m5_cutAll_j121 (a1 a2 a4 s0 : Int) (bk17 : (Int × Int) → MM Unit) (bk70 : (Int × Int) → MM Unit) : MM Unit :=
  bk70 (a2 + 1, s0)
def m5_cutAll_b70 (a1 a4 : Int) (bk17 : (Int × Int) → MM Unit) (a2 a5 : Int) (bk70 : (Int × Int) → MM Unit) : MM Unit :=
  pbnd (mget 3) fun v72 =>
  pite (w32 a2 < w32 v72) (
    pbnd (mrd 1 1000 a2) fun v83 =>
    pbnd (m5_isLetter v83) fun v84 =>
    pite (w32 v84 = 0) (
      m5_cutAll_j129 a1 a2 a4 a5 bk17) (
      pite (w32 ((a2 - a4)) < 8) (
        pbnd (mrd 1 1000 a2) fun v110 =>
        pbnd (m5_rank v110) fun v111 =>
        m5_cutAll_j121 a1 a2 a4 (((37 * a5)) + (zi2l v111)) bk17 bk70) (
        m5_cutAll_j121 a1 a2 a4 a5 bk17 bk70))) (
    m5_cutAll_j129 a1 a2 a4 a5 bk17)
def m5_cutAll_l70 (a1 a2 a4 a5 : Int) (bk17 : (Int × Int) → MM Unit) : MM Unit :=
  ploop (fun (s : (Int × Int)) bk70 => m5_cutAll_b70 a1 a4 bk17 s.1 s.2 bk70) (a2, a5)
def m5_cutAll_b17 (a1 a2 : Int) (bk17 : (Int × Int) → MM Unit) : MM Unit :=
  pbnd (mget 3) fun v19 =>
  pite (w32 a2 < w32 v19) (
    pbnd (mrd 1 1000 a2) fun v30 =>
    pite (w32 v30 = 10) (
      m5_cutAll_j44 a1 a2 bk17) (
      pite (w32 v30 = 32) (
        m5_cutAll_j44 a1 a2 bk17) (
        pbnd (mwr 3 1002 a1 (w32 a2)) fun _ =>
        pbnd (m5_isLetter v30) fun v64 =>
        pite (w32 v64 = 0) (
          pbnd (m5_isDigit v30) fun v153 =>
          pite (w32 v153 = 0) (
            plet (zi2l v30) fun x242 =>
            pbnd (m5_isSignOf v30) fun v250 =>
            plet (if w32 v250 = 0 then 4 else 3) fun d261 =>
            pbnd (mwr 2 1002 a1 (w32 d261)) fun _ =>
            m5_cutAll_j265 a1 (a2 + 1) x242 bk17) (
            m5_cutAll_l159 a1 a2 a2 0 bk17)) (
          m5_cutAll_l70 a1 a2 a2 0 bk17)))) (
    pbnd (mwr 2 1002 a1 0) fun _ =>
    pbnd (mget 3) fun v292 =>
    pbnd (mwr 3 1002 a1 v292) fun _ =>
    pbnd (mput 7 0) fun _ =>
    pbnd (mput 8 0) fun _ =>
    pret ())
def m5_cutAll_l17 (a1 a2 : Int) : MM Unit :=
  ploop (fun (s : (Int × Int)) bk17 => m5_cutAll_b17 s.1 s.2 bk17) (a1, a2)
def m5_cutAll : MM Unit :=
  pbnd (mget 2) fun v2 =>
  pbnd (mput 3 v2) fun _ =>
  pbnd (mput 2 0) fun _ =>
  m5_cutAll_l17 0 0
set_option maxHeartbeats 4000000 in
set_option maxRecDepth 100000 in
theorem met5_cutAll (l : Launch) (g : MG) : MMet l g yX5_cutAll cX5_cutAll 7 (Option.none : Option Jvm.ClassFile.FieldType) (2) [.ref (g.2.2)] (m5_cutAll) rvV := by
  refine mj_start (by decide +kernel) rfl (Nat.le_of_ble_eq_true rfl) (fun X Q hl C K hQ hR hr => ?_)
  subst hl
  show GJ X 7 (mWo g (cx_s X).heap) Q (m5_cutAll) 0 [(0, .ref (g.2.2))] []
  have J17 : ∀ (a1 a2 : Int), GJ X 7 (mWo g (cx_s X).heap) Q (m5_cutAll_l17 a1 a2) 17 [(0, .ref (g.2.2)), (1, .int (iI a1)), (2, .int (iI a2))] [] := by
    intro a1 a2
    unfold m5_cutAll_l17
    refine gj_loop (fun (s : (Int × Int)) => [(0, .ref (g.2.2)), (1, .int (iI (s.1))), (2, .int (iI (s.2)))]) (a1, a2) (fun bk17 hb17 s => ?_)
    obtain ⟨a1, a2⟩ := s
    show GJ X 7 (mWo g (cx_s X).heap) Q (m5_cutAll_b17 a1 a2 bk17) 17 [(0, .ref (g.2.2)), (1, .int (iI a1)), (2, .int (iI a2))] []
    have J44 : ∀ (a1 a2 : Int), GJ X 7 (mWo g (cx_s X).heap) Q (m5_cutAll_j44 a1 a2 bk17) 44 [(0, .ref (g.2.2)), (1, .int (iI a1)), (2, .int (iI a2))] [] := by
      intro a1 a2
      unfold m5_cutAll_j44
      refine gj_iinc (L' := [(2, _), (0, _), (1, _)]) C dX5_cutAll_44 2 rfl (by decide) rfl ?_
      refine gj_goto (tgt := 17) C dX5_cutAll_47 (by decide) ?_
      exact gj_to [1, 2, 0] (hb17 (a1, a2 + 1)) rfl
    have J265 : ∀ (a1 a2 a5 : Int), GJ X 7 (mWo g (cx_s X).heap) Q (m5_cutAll_j265 a1 a2 a5 bk17) 265 [(0, .ref (g.2.2)), (1, .int (iI a1)), (2, .int (iI a2)), (5, .long (iL a5))] [] := by
      intro a1 a2 a5
      unfold m5_cutAll_j265
      refine gj_aload_n C dX5_cutAll_265 0 rfl ?_
      refine mj_getR (kf := 6) (j := 4) C K dX5_cutAll_266 (by decide) (by decide) rfl (by decide) q1877 rfl ?_
      refine gj_iload_n C dX5_cutAll_269 1 rfl ?_
      refine gj_lload C dX5_cutAll_270 3 rfl ?_
      refine gj_nrmL ?_
      refine mj_last (j := 4) C K dX5_cutAll_272 (by decide) (by decide) rfl ?_
      refine gj_iinc (L' := [(1, _), (0, _), (2, _), (5, _)]) C dX5_cutAll_273 1 rfl (by decide) rfl ?_
      refine gj_goto (tgt := 17) C dX5_cutAll_276 (by decide) ?_
      exact gj_to [1, 0, 2] (hb17 (a1 + 1, a2)) rfl
    have J218 : ∀ (a1 a2 a4 a5 : Int), GJ X 7 (mWo g (cx_s X).heap) Q (m5_cutAll_j218 a1 a2 a4 a5 bk17) 218 [(0, .ref (g.2.2)), (1, .int (iI a1)), (2, .int (iI a2)), (4, .int (iI a4)), (5, .long (iL a5))] [] := by
      intro a1 a2 a4 a5
      unfold m5_cutAll_j218
      refine gj_aload_n C dX5_cutAll_218 0 rfl ?_
      refine mj_getR (kf := 4) (j := 2) C K dX5_cutAll_219 (by decide) (by decide) rfl (by decide) q1875 rfl ?_
      refine gj_iload_n C dX5_cutAll_222 1 rfl ?_
      refine gj_iload_n C dX5_cutAll_223 2 rfl ?_
      refine gj_iload C dX5_cutAll_224 3 rfl ?_
      refine gj_isub C dX5_cutAll_226 ?_
      refine gj_iconst C dX5_cutAll_227 ?_
      refine gj_dia (J := 236) (L := [(0, .ref (g.2.2)), (1, .int (iI a1)), (2, .int (iI a2)), (4, .int (iI a4)), (5, .long (iL a5))]) (st := [.int (iI a1), .ref (g.2.2 + 2)]) (fun d236 => ?_) (fun t hJ => ?_)
      · skip
        refine gj_nrmI ?_
        refine mj_iast (j := 2) C K dX5_cutAll_236 (by decide) (by decide) rfl ?_
        refine gj_goto (tgt := 265) C dX5_cutAll_237 (by decide) ?_
        exact gj_to [0, 1, 2, 4] (J265 a1 a2 a5) rfl
      · refine gj_icmp_le (tgt := 235) (b' := 4) C dX5_cutAll_228 (by decide) rfl (by decide) (fun h228 => ?_) (fun h228 => ?_)
        · refine gj_iconst C dX5_cutAll_235 ?_
          exact (by rw [if_neg h228] at hJ; exact hJ)
        · refine gj_iconst C dX5_cutAll_231 ?_
          refine gj_goto (tgt := 236) C dX5_cutAll_232 (by decide) ?_
          exact (by rw [if_pos h228] at hJ; exact hJ)
    have J159 : ∀ (a1 a2 a4 a5 : Int), GJ X 7 (mWo g (cx_s X).heap) Q (m5_cutAll_l159 a1 a2 a4 a5 bk17) 159 [(0, .ref (g.2.2)), (1, .int (iI a1)), (2, .int (iI a2)), (4, .int (iI a4)), (5, .long (iL a5))] [] := by
      intro a1 a2 a4 a5
      unfold m5_cutAll_l159
      refine gj_loop (fun (s : (Int × Int)) => [(0, .ref (g.2.2)), (1, .int (iI a1)), (2, .int (iI (s.1))), (4, .int (iI a4)), (5, .long (iL (s.2)))]) (a2, a5) (fun bk159 hb159 s => ?_)
      obtain ⟨a2, a5⟩ := s
      show GJ X 7 (mWo g (cx_s X).heap) Q (m5_cutAll_b159 a1 a4 bk17 a2 a5 bk159) 159 [(0, .ref (g.2.2)), (1, .int (iI a1)), (2, .int (iI a2)), (4, .int (iI a4)), (5, .long (iL a5))] []
      have J210 : ∀ (a2 s0 : Int), GJ X 7 (mWo g (cx_s X).heap) Q (m5_cutAll_j210 a1 a2 a4 s0 bk17 bk159) 210 [(0, .ref (g.2.2)), (1, .int (iI a1)), (2, .int (iI a2)), (4, .int (iI a4))] [.long (iL s0)] := by
        intro a2 s0
        unfold m5_cutAll_j210
        refine gj_lstore (L' := [(5, _), (0, _), (1, _), (2, _), (4, _)]) C dX5_cutAll_210 (by decide) rfl ?_
        refine gj_iinc (L' := [(2, _), (5, _), (0, _), (1, _), (4, _)]) C dX5_cutAll_212 3 rfl (by decide) rfl ?_
        refine gj_goto (tgt := 159) C dX5_cutAll_215 (by decide) ?_
        exact gj_to [2, 3, 0, 4, 1] (hb159 (a2 + 1, s0)) rfl
      unfold m5_cutAll_b159
      refine gj_iload_n C dX5_cutAll_159 2 rfl ?_
      refine gj_aload_n C dX5_cutAll_160 0 rfl ?_
      refine mj_getI (kf := 3) C K dX5_cutAll_161 (by decide) (by decide) rfl q1874 rfl (fun v161 => ?_)
      refine gj_icmp_ge (tgt := 218) C dX5_cutAll_164 (by decide) rfl rfl (fun h164 => gj_neg h164 ?_) (fun h164 => gj_pos h164 ?_)
      · exact gj_to [0, 1, 2, 3, 4] (J218 a1 a2 a4 a5) rfl
      · refine gj_aload_n C dX5_cutAll_167 0 rfl ?_
        refine mj_getR (kf := 1) (j := 1) C K dX5_cutAll_168 (by decide) (by decide) rfl (by decide) q1872 rfl ?_
        refine gj_iload_n C dX5_cutAll_171 2 rfl ?_
        refine mj_iald (j := 1) C K dX5_cutAll_172 (by decide) rfl (fun v172 => ?_)
        refine mj_callSI (As := [.int (iI v172)]) (rest := []) C K dX5_cutAll_173 (met5_isDigit (cx_l X) g v172) (lw_S q2018 q2019 q134 q2020) hy5s_isDigit hR (Nat.le_of_ble_eq_true rfl) (by decide) rfl rfl (Nat.zero_le _) (fun v173 => ?_)
        refine gj_if_eq (tgt := 218) C dX5_cutAll_176 (by decide) (fun h176 => gj_pos h176 ?_) (fun h176 => gj_neg h176 ?_)
        · exact gj_to [0, 1, 2, 3, 4] (J218 a1 a2 a4 a5) rfl
        · refine gj_iload_n C dX5_cutAll_179 2 rfl ?_
          refine gj_iload C dX5_cutAll_180 3 rfl ?_
          refine gj_isub C dX5_cutAll_182 ?_
          refine gj_iconst C dX5_cutAll_183 ?_
          refine gj_icmp_ge (tgt := 208) (b' := 4) C dX5_cutAll_184 (by decide) rfl (by decide) (fun h184 => gj_neg h184 ?_) (fun h184 => gj_pos h184 ?_)
          · refine gj_lload C dX5_cutAll_208 4 rfl ?_
            exact gj_to [0, 1, 2, 3] (J210 a2 a5) rfl
          · refine gj_ldc2 (z := 10) C dX5_cutAll_187 q2021 (by decide) ?_
            refine gj_lload C dX5_cutAll_190 4 rfl ?_
            refine gj_lmul C dX5_cutAll_192 ?_
            refine gj_aload_n C dX5_cutAll_193 0 rfl ?_
            refine mj_getR (kf := 1) (j := 1) C K dX5_cutAll_194 (by decide) (by decide) rfl (by decide) q1872 rfl ?_
            refine gj_iload_n C dX5_cutAll_197 2 rfl ?_
            refine mj_iald (j := 1) C K dX5_cutAll_198 (by decide) rfl (fun v198 => ?_)
            refine gj_i2l C dX5_cutAll_199 ?_
            refine gj_ladd C dX5_cutAll_200 ?_
            refine gj_ldc2 (z := 48) C dX5_cutAll_201 q2022 (by decide) ?_
            refine gj_lsub C dX5_cutAll_204 ?_
            refine gj_goto (tgt := 210) C dX5_cutAll_205 (by decide) ?_
            exact gj_to [0, 1, 2, 3] (J210 a2 (((((10 * a5)) + (zi2l v198))) - 48)) rfl
    have J129 : ∀ (a1 a2 a4 a5 : Int), GJ X 7 (mWo g (cx_s X).heap) Q (m5_cutAll_j129 a1 a2 a4 a5 bk17) 129 [(0, .ref (g.2.2)), (1, .int (iI a1)), (2, .int (iI a2)), (4, .int (iI a4)), (5, .long (iL a5))] [] := by
      intro a1 a2 a4 a5
      unfold m5_cutAll_j129
      refine gj_aload_n C dX5_cutAll_129 0 rfl ?_
      refine mj_getR (kf := 4) (j := 2) C K dX5_cutAll_130 (by decide) (by decide) rfl (by decide) q1875 rfl ?_
      refine gj_iload_n C dX5_cutAll_133 1 rfl ?_
      refine gj_iload_n C dX5_cutAll_134 2 rfl ?_
      refine gj_iload C dX5_cutAll_135 3 rfl ?_
      refine gj_isub C dX5_cutAll_137 ?_
      refine gj_bipush C dX5_cutAll_138 rfl ?_
      refine gj_dia (J := 148) (L := [(0, .ref (g.2.2)), (1, .int (iI a1)), (2, .int (iI a2)), (4, .int (iI a4)), (5, .long (iL a5))]) (st := [.int (iI a1), .ref (g.2.2 + 2)]) (fun d148 => ?_) (fun t hJ => ?_)
      · skip
        refine gj_nrmI ?_
        refine mj_iast (j := 2) C K dX5_cutAll_148 (by decide) (by decide) rfl ?_
        refine gj_goto (tgt := 265) C dX5_cutAll_149 (by decide) ?_
        exact gj_to [0, 1, 2, 4] (J265 a1 a2 a5) rfl
      · refine gj_icmp_le (tgt := 147) (b' := 8) C dX5_cutAll_140 (by decide) rfl (by decide) (fun h140 => ?_) (fun h140 => ?_)
        · refine gj_iconst C dX5_cutAll_147 ?_
          exact (by rw [if_neg h140] at hJ; exact hJ)
        · refine gj_iconst C dX5_cutAll_143 ?_
          refine gj_goto (tgt := 148) C dX5_cutAll_144 (by decide) ?_
          exact (by rw [if_pos h140] at hJ; exact hJ)
    have J70 : ∀ (a1 a2 a4 a5 : Int), GJ X 7 (mWo g (cx_s X).heap) Q (m5_cutAll_l70 a1 a2 a4 a5 bk17) 70 [(0, .ref (g.2.2)), (1, .int (iI a1)), (2, .int (iI a2)), (4, .int (iI a4)), (5, .long (iL a5))] [] := by
      intro a1 a2 a4 a5
      unfold m5_cutAll_l70
      refine gj_loop (fun (s : (Int × Int)) => [(0, .ref (g.2.2)), (1, .int (iI a1)), (2, .int (iI (s.1))), (4, .int (iI a4)), (5, .long (iL (s.2)))]) (a2, a5) (fun bk70 hb70 s => ?_)
      obtain ⟨a2, a5⟩ := s
      show GJ X 7 (mWo g (cx_s X).heap) Q (m5_cutAll_b70 a1 a4 bk17 a2 a5 bk70) 70 [(0, .ref (g.2.2)), (1, .int (iI a1)), (2, .int (iI a2)), (4, .int (iI a4)), (5, .long (iL a5))] []
      have J121 : ∀ (a2 s0 : Int), GJ X 7 (mWo g (cx_s X).heap) Q (m5_cutAll_j121 a1 a2 a4 s0 bk17 bk70) 121 [(0, .ref (g.2.2)), (1, .int (iI a1)), (2, .int (iI a2)), (4, .int (iI a4))] [.long (iL s0)] := by
        intro a2 s0
        unfold m5_cutAll_j121
        refine gj_lstore (L' := [(5, _), (0, _), (1, _), (2, _), (4, _)]) C dX5_cutAll_121 (by decide) rfl ?_
        refine gj_iinc (L' := [(2, _), (5, _), (0, _), (1, _), (4, _)]) C dX5_cutAll_123 3 rfl (by decide) rfl ?_
        refine gj_goto (tgt := 70) C dX5_cutAll_126 (by decide) ?_
        exact gj_to [2, 3, 0, 4, 1] (hb70 (a2 + 1, s0)) rfl
      unfold m5_cutAll_b70
      refine gj_iload_n C dX5_cutAll_70 2 rfl ?_
      refine gj_aload_n C dX5_cutAll_71 0 rfl ?_
      refine mj_getI (kf := 3) C K dX5_cutAll_72 (by decide) (by decide) rfl q1874 rfl (fun v72 => ?_)
      refine gj_icmp_ge (tgt := 129) C dX5_cutAll_75 (by decide) rfl rfl (fun h75 => gj_neg h75 ?_) (fun h75 => gj_pos h75 ?_)
      · exact gj_to [0, 1, 2, 3, 4] (J129 a1 a2 a4 a5) rfl
      · refine gj_aload_n C dX5_cutAll_78 0 rfl ?_
        refine mj_getR (kf := 1) (j := 1) C K dX5_cutAll_79 (by decide) (by decide) rfl (by decide) q1872 rfl ?_
        refine gj_iload_n C dX5_cutAll_82 2 rfl ?_
        refine mj_iald (j := 1) C K dX5_cutAll_83 (by decide) rfl (fun v83 => ?_)
        refine mj_callSI (As := [.int (iI v83)]) (rest := []) C K dX5_cutAll_84 (met5_isLetter (cx_l X) g v83) (lw_S q2011 q2012 q134 q2013) hy5s_isLetter hR (Nat.le_of_ble_eq_true rfl) (by decide) rfl rfl (Nat.zero_le _) (fun v84 => ?_)
        refine gj_if_eq (tgt := 129) C dX5_cutAll_87 (by decide) (fun h87 => gj_pos h87 ?_) (fun h87 => gj_neg h87 ?_)
        · exact gj_to [0, 1, 2, 3, 4] (J129 a1 a2 a4 a5) rfl
        · refine gj_iload_n C dX5_cutAll_90 2 rfl ?_
          refine gj_iload C dX5_cutAll_91 3 rfl ?_
          refine gj_isub C dX5_cutAll_93 ?_
          refine gj_bipush C dX5_cutAll_94 rfl ?_
          refine gj_icmp_ge (tgt := 119) (b' := 8) C dX5_cutAll_96 (by decide) rfl (by decide) (fun h96 => gj_neg h96 ?_) (fun h96 => gj_pos h96 ?_)
          · refine gj_lload C dX5_cutAll_119 4 rfl ?_
            exact gj_to [0, 1, 2, 3] (J121 a2 a5) rfl
          · refine gj_ldc2 (z := 37) C dX5_cutAll_99 q2014 (by decide) ?_
            refine gj_lload C dX5_cutAll_102 4 rfl ?_
            refine gj_lmul C dX5_cutAll_104 ?_
            refine gj_aload_n C dX5_cutAll_105 0 rfl ?_
            refine mj_getR (kf := 1) (j := 1) C K dX5_cutAll_106 (by decide) (by decide) rfl (by decide) q1872 rfl ?_
            refine gj_iload_n C dX5_cutAll_109 2 rfl ?_
            refine mj_iald (j := 1) C K dX5_cutAll_110 (by decide) rfl (fun v110 => ?_)
            refine mj_callSI (As := [.int (iI v110)]) (rest := [.long (iL ((37 * a5)))]) C K dX5_cutAll_111 (met5_rank (cx_l X) g v110) (lw_S q2015 q2016 q134 q2017) hy5s_rank hR (Nat.le_of_ble_eq_true rfl) (by decide) rfl rfl (Nat.le_of_ble_eq_true rfl) (fun v111 => ?_)
            refine gj_i2l C dX5_cutAll_114 ?_
            refine gj_ladd C dX5_cutAll_115 ?_
            refine gj_goto (tgt := 121) C dX5_cutAll_116 (by decide) ?_
            exact gj_to [0, 1, 2, 3] (J121 a2 (((37 * a5)) + (zi2l v111))) rfl
    unfold m5_cutAll_b17
    refine gj_iload_n C dX5_cutAll_17 2 rfl ?_
    refine gj_aload_n C dX5_cutAll_18 0 rfl ?_
    refine mj_getI (kf := 3) C K dX5_cutAll_19 (by decide) (by decide) rfl q1874 rfl (fun v19 => ?_)
    refine gj_icmp_ge (tgt := 279) C dX5_cutAll_22 (by decide) rfl rfl (fun h22 => gj_neg h22 ?_) (fun h22 => gj_pos h22 ?_)
    · refine gj_aload_n C dX5_cutAll_279 0 rfl ?_
      refine mj_getR (kf := 4) (j := 2) C K dX5_cutAll_280 (by decide) (by decide) rfl (by decide) q1875 rfl ?_
      refine gj_iload_n C dX5_cutAll_283 1 rfl ?_
      refine gj_iconst C dX5_cutAll_284 ?_
      refine mj_iast (j := 2) C K dX5_cutAll_285 (by decide) (by decide) rfl ?_
      refine gj_aload_n C dX5_cutAll_286 0 rfl ?_
      refine mj_getR (kf := 5) (j := 3) C K dX5_cutAll_287 (by decide) (by decide) rfl (by decide) q1876 rfl ?_
      refine gj_iload_n C dX5_cutAll_290 1 rfl ?_
      refine gj_aload_n C dX5_cutAll_291 0 rfl ?_
      refine mj_getI (kf := 3) C K dX5_cutAll_292 (by decide) (by decide) rfl q1874 rfl (fun v292 => ?_)
      refine mj_iast (j := 3) C K dX5_cutAll_295 (by decide) (by decide) rfl ?_
      refine gj_aload_n C dX5_cutAll_296 0 rfl ?_
      refine gj_iconst C dX5_cutAll_297 ?_
      refine mj_putI (kf := 7) C K dX5_cutAll_298 (by decide) (by decide) rfl q1878 rfl rfl (by decide +kernel) ?_
      refine gj_aload_n C dX5_cutAll_301 0 rfl ?_
      refine gj_iconst C dX5_cutAll_302 ?_
      refine mj_putI (kf := 8) C K dX5_cutAll_303 (by decide) (by decide) rfl q1879 rfl rfl (by decide +kernel) ?_
      exact mj_vret C hQ hr dX5_cutAll_306
    · refine gj_aload_n C dX5_cutAll_25 0 rfl ?_
      refine mj_getR (kf := 1) (j := 1) C K dX5_cutAll_26 (by decide) (by decide) rfl (by decide) q1872 rfl ?_
      refine gj_iload_n C dX5_cutAll_29 2 rfl ?_
      refine mj_iald (j := 1) C K dX5_cutAll_30 (by decide) rfl (fun v30 => ?_)
      refine gj_istore_n (L' := [(3, _), (0, _), (1, _), (2, _)]) C dX5_cutAll_31 (by decide) rfl ?_
      refine gj_iload_n C dX5_cutAll_32 0 rfl ?_
      refine gj_bipush C dX5_cutAll_33 rfl ?_
      refine gj_icmp_eq (tgt := 44) (b' := 10) C dX5_cutAll_35 (by decide) rfl (by decide) (fun h35 => gj_pos h35 ?_) (fun h35 => gj_neg h35 ?_)
      · exact gj_to [1, 2, 3] (J44 a1 a2) rfl
      · refine gj_iload_n C dX5_cutAll_38 0 rfl ?_
        refine gj_bipush C dX5_cutAll_39 rfl ?_
        refine gj_icmp_ne (tgt := 50) (b' := 32) C dX5_cutAll_41 (by decide) rfl (by decide) (fun h41 => gj_neg h41 ?_) (fun h41 => gj_pos h41 ?_)
        · refine gj_iload_n C dX5_cutAll_50 3 rfl ?_
          refine gj_istore (L' := [(4, _), (3, _), (0, _), (1, _), (2, _)]) C dX5_cutAll_51 (by decide) rfl ?_
          refine gj_lconst (z := 0) C dX5_cutAll_53 rfl ?_
          refine gj_lstore (L' := [(5, _), (4, _), (3, _), (0, _), (1, _), (2, _)]) C dX5_cutAll_54 (by decide) rfl ?_
          refine gj_aload_n C dX5_cutAll_56 3 rfl ?_
          refine mj_getR (kf := 5) (j := 3) C K dX5_cutAll_57 (by decide) (by decide) rfl (by decide) q1876 rfl ?_
          refine gj_iload_n C dX5_cutAll_60 4 rfl ?_
          refine gj_iload_n C dX5_cutAll_61 5 rfl ?_
          refine gj_nrmI ?_
          refine mj_iast (j := 3) C K dX5_cutAll_62 (by decide) (by decide) rfl ?_
          refine gj_iload_n C dX5_cutAll_63 2 rfl ?_
          refine mj_callSI (As := [.int (iI v30)]) (rest := []) C K dX5_cutAll_64 (met5_isLetter (cx_l X) g v30) (lw_S q2011 q2012 q134 q2013) hy5s_isLetter hR (Nat.le_of_ble_eq_true rfl) (by decide) rfl rfl (Nat.zero_le _) (fun v64 => ?_)
          refine gj_if_eq (tgt := 152) C dX5_cutAll_67 (by decide) (fun h67 => gj_pos h67 ?_) (fun h67 => gj_neg h67 ?_)
          · refine gj_iload_n C dX5_cutAll_152 2 rfl ?_
            refine mj_callSI (As := [.int (iI v30)]) (rest := []) C K dX5_cutAll_153 (met5_isDigit (cx_l X) g v30) (lw_S q2018 q2019 q134 q2020) hy5s_isDigit hR (Nat.le_of_ble_eq_true rfl) (by decide) rfl rfl (Nat.zero_le _) (fun v153 => ?_)
            refine gj_if_eq (tgt := 240) C dX5_cutAll_156 (by decide) (fun h156 => gj_pos h156 ?_) (fun h156 => gj_neg h156 ?_)
            · refine gj_iload_n C dX5_cutAll_240 2 rfl ?_
              refine gj_i2l C dX5_cutAll_241 ?_
              refine gj_letl (fun x242 => ?_)
              refine gj_lstore (L' := [(5, _), (4, _), (3, _), (0, _), (1, _), (2, _)]) C dX5_cutAll_242 (by decide) rfl ?_
              refine gj_aload_n C dX5_cutAll_244 3 rfl ?_
              refine mj_getR (kf := 4) (j := 2) C K dX5_cutAll_245 (by decide) (by decide) rfl (by decide) q1875 rfl ?_
              refine gj_iload_n C dX5_cutAll_248 4 rfl ?_
              refine gj_iload_n C dX5_cutAll_249 2 rfl ?_
              refine mj_callSI (As := [.int (iI v30)]) (rest := [.int (iI a1), .ref (g.2.2 + 2)]) C K dX5_cutAll_250 (met5_isSignOf (cx_l X) g v30) (lw_S q2023 q2024 q134 q2025) hy5s_isSignOf hR (Nat.le_of_ble_eq_true rfl) (by decide) rfl rfl (Nat.le_of_ble_eq_true rfl) (fun v250 => ?_)
              refine gj_dia (J := 261) (L := [(5, .long (iL x242)), (4, .int (iI a2)), (3, .int (iI v30)), (0, .ref (g.2.2)), (1, .int (iI a1)), (2, .int (iI a2))]) (st := [.int (iI a1), .ref (g.2.2 + 2)]) (fun d261 => ?_) (fun t hJ => ?_)
              · skip
                refine gj_nrmI ?_
                refine mj_iast (j := 2) C K dX5_cutAll_261 (by decide) (by decide) rfl ?_
                refine gj_iinc (L' := [(2, _), (5, _), (4, _), (3, _), (0, _), (1, _)]) C dX5_cutAll_262 5 rfl (by decide) rfl ?_
                exact gj_to [4, 5, 0, 1] (J265 a1 (a2 + 1) x242) rfl
              · refine gj_if_eq (tgt := 260) C dX5_cutAll_253 (by decide) (fun h253 => ?_) (fun h253 => ?_)
                · refine gj_iconst C dX5_cutAll_260 ?_
                  exact (by rw [if_pos h253] at hJ; exact hJ)
                · refine gj_iconst C dX5_cutAll_256 ?_
                  refine gj_goto (tgt := 261) C dX5_cutAll_257 (by decide) ?_
                  exact (by rw [if_neg h253] at hJ; exact hJ)
            · exact gj_to [3, 4, 5, 1, 0] (J159 a1 a2 a2 0) rfl
          · exact gj_to [3, 4, 5, 1, 0] (J70 a1 a2 a2 0) rfl
        · exact gj_to [1, 2, 3] (J44 a1 a2) rfl
  unfold m5_cutAll
  refine gj_aload_n C dX5_cutAll_0 0 rfl ?_
  refine gj_aload_n C dX5_cutAll_1 0 rfl ?_
  refine mj_getI (kf := 2) C K dX5_cutAll_2 (by decide) (by decide) rfl q1873 rfl (fun v2 => ?_)
  refine mj_putI (kf := 3) C K dX5_cutAll_5 (by decide) (by decide) rfl q1874 rfl rfl (by decide +kernel) ?_
  refine gj_aload_n C dX5_cutAll_8 0 rfl ?_
  refine gj_iconst C dX5_cutAll_9 ?_
  refine mj_putI (kf := 2) C K dX5_cutAll_10 (by decide) (by decide) rfl q1873 rfl rfl (by decide +kernel) ?_
  refine gj_iconst C dX5_cutAll_13 ?_
  refine gj_istore_n (L' := [(1, _), (0, _)]) C dX5_cutAll_14 (by decide) rfl ?_
  refine gj_iconst C dX5_cutAll_15 ?_
  refine gj_istore_n (L' := [(2, _), (1, _), (0, _)]) C dX5_cutAll_16 (by decide) rfl ?_
  exact gj_to [2, 1, 0] (J17 0 0) rfl
def m5_isWord (a1 : Int) : MM Int :=
  pbnd (mget 8) fun v1 =>
  pite (w32 v1 = 0) (
    pbnd (mget 7) fun v12 =>
    pbnd (mrd 2 1002 v12) fun v15 =>
    pite (w32 v15 = 1) (
      pbnd (mget 7) fun v25 =>
      pbnd (mrd 4 1002 v25) fun v28 =>
      pbnd (mrd 5 27 a1) fun v34 =>
      pite (w32 (lcmp' v28 v34) = 0) (
        pbnd (pzo 1) fun _ => pret 1) (
        pbnd (pzo 0) fun _ => pret 0)) (
      pbnd (pzo 0) fun _ => pret 0)) (
    pbnd (pzo 0) fun _ => pret 0)
set_option maxHeartbeats 4000000 in
set_option maxRecDepth 100000 in
theorem met5_isWord (l : Launch) (g : MG) (a1 : Int) : MMet l g yX5_isWord cX5_isWord 2 (Option.some Jvm.ClassFile.FieldType.boolean) (0) [.ref (g.2.2), .int (iI a1)] (m5_isWord a1) rvI := by
  refine mj_start (by decide +kernel) rfl (Nat.le_of_ble_eq_true rfl) (fun X Q hl C K hQ hR hr => ?_)
  subst hl
  show GJ X 2 (mWo g (cx_s X).heap) Q (m5_isWord a1) 0 [(0, .ref (g.2.2)), (1, .int (iI a1))] []
  unfold m5_isWord
  refine gj_aload_n C dX5_isWord_0 0 rfl ?_
  refine mj_getI (kf := 8) C K dX5_isWord_1 (by decide) (by decide) rfl q1879 rfl (fun v1 => ?_)
  refine gj_if_ne (tgt := 43) C dX5_isWord_4 (by decide) (fun h4 => gj_neg h4 ?_) (fun h4 => gj_pos h4 ?_)
  · refine gj_iconst C dX5_isWord_43 ?_
    exact mj_zret C hQ hr dX5_isWord_44
  · refine gj_aload_n C dX5_isWord_7 0 rfl ?_
    refine mj_getR (kf := 4) (j := 2) C K dX5_isWord_8 (by decide) (by decide) rfl (by decide) q1875 rfl ?_
    refine gj_aload_n C dX5_isWord_11 0 rfl ?_
    refine mj_getI (kf := 7) C K dX5_isWord_12 (by decide) (by decide) rfl q1878 rfl (fun v12 => ?_)
    refine mj_iald (j := 2) C K dX5_isWord_15 (by decide) rfl (fun v15 => ?_)
    refine gj_iconst C dX5_isWord_16 ?_
    refine gj_icmp_ne (tgt := 43) (b' := 1) C dX5_isWord_17 (by decide) rfl (by decide) (fun h17 => gj_neg h17 ?_) (fun h17 => gj_pos h17 ?_)
    · refine gj_iconst C dX5_isWord_43 ?_
      exact mj_zret C hQ hr dX5_isWord_44
    · refine gj_aload_n C dX5_isWord_20 0 rfl ?_
      refine mj_getR (kf := 6) (j := 4) C K dX5_isWord_21 (by decide) (by decide) rfl (by decide) q1877 rfl ?_
      refine gj_aload_n C dX5_isWord_24 0 rfl ?_
      refine mj_getI (kf := 7) C K dX5_isWord_25 (by decide) (by decide) rfl q1878 rfl (fun v25 => ?_)
      refine mj_lald (j := 4) C K dX5_isWord_28 (by decide) rfl (fun v28 => ?_)
      refine gj_aload_n C dX5_isWord_29 0 rfl ?_
      refine mj_getR (kf := 9) (j := 5) C K dX5_isWord_30 (by decide) (by decide) rfl (by decide) q1880 rfl ?_
      refine gj_iload_n C dX5_isWord_33 1 rfl ?_
      refine mj_lald (j := 5) C K dX5_isWord_34 (by decide) rfl (fun v34 => ?_)
      refine gj_lcmp C dX5_isWord_35 ?_
      refine gj_if_ne (tgt := 43) C dX5_isWord_36 (by decide) (fun h36 => gj_neg h36 ?_) (fun h36 => gj_pos h36 ?_)
      · refine gj_iconst C dX5_isWord_43 ?_
        exact mj_zret C hQ hr dX5_isWord_44
      · refine gj_iconst C dX5_isWord_39 ?_
        refine gj_goto (tgt := 44) C dX5_isWord_40 (by decide) ?_
        exact mj_zret C hQ hr dX5_isWord_44
def m5_find_j42 (a1 a2 a3 s0 : Int) (bk4 : (Int × Int) → MM Int) : MM Int :=
  pbnd (mget 7) fun v47 =>
  pbnd (mrd 4 1002 v47) fun v50 =>
  plet (if w32 (lcmp' s0 v50) = 0 then a3 else a2) fun d60 =>
  bk4 (d60, a3 + 1)
def m5_find_j20 (a1 a2 a3 s0 s1 : Int) (bk4 : (Int × Int) → MM Int) : MM Int :=
  pite (w32 s0 < w32 s1) (
    pite (w32 a1 = 0) (
      pbnd (mrd 9 6 a3) fun v41 =>
      m5_find_j42 a1 a2 a3 v41 bk4) (
      pbnd (mrd 10 6 a3) fun v32 =>
      m5_find_j42 a1 a2 a3 v32 bk4)) (
    pret (w32 a2))
def m5_find_b4 (a1 : Int) (a2 a3 : Int) (bk4 : (Int × Int) → MM Int) : MM Int :=
  pite (w32 a1 = 0) (
    pbnd (mget 16) fun v17 =>
    m5_find_j20 a1 a2 a3 a3 v17 bk4) (
    pbnd (mget 17) fun v10 =>
    m5_find_j20 a1 a2 a3 a3 v10 bk4)
def m5_find_l4 (a1 a2 a3 : Int) : MM Int :=
  ploop (fun (s : (Int × Int)) bk4 => m5_find_b4 a1 s.1 s.2 bk4) (a2, a3)
def m5_find (a1 : Int) : MM Int :=
  m5_find_l4 a1 (-1) 0
set_option maxHeartbeats 4000000 in
set_option maxRecDepth 100000 in
theorem met5_find (l : Launch) (g : MG) (a1 : Int) : MMet l g yX5_find cX5_find 4 (Option.some Jvm.ClassFile.FieldType.int) (0) [.ref (g.2.2), .int (iI a1)] (m5_find a1) rvI := by
  refine mj_start (by decide +kernel) rfl (Nat.le_of_ble_eq_true rfl) (fun X Q hl C K hQ hR hr => ?_)
  subst hl
  show GJ X 4 (mWo g (cx_s X).heap) Q (m5_find a1) 0 [(0, .ref (g.2.2)), (1, .int (iI a1))] []
  have J4 : ∀ (a1 a2 a3 : Int), GJ X 4 (mWo g (cx_s X).heap) Q (m5_find_l4 a1 a2 a3) 4 [(0, .ref (g.2.2)), (1, .int (iI a1)), (2, .int (iI a2)), (3, .int (iI a3))] [] := by
    intro a1 a2 a3
    unfold m5_find_l4
    refine gj_loop (fun (s : (Int × Int)) => [(0, .ref (g.2.2)), (1, .int (iI a1)), (2, .int (iI (s.1))), (3, .int (iI (s.2)))]) (a2, a3) (fun bk4 hb4 s => ?_)
    obtain ⟨a2, a3⟩ := s
    show GJ X 4 (mWo g (cx_s X).heap) Q (m5_find_b4 a1 a2 a3 bk4) 4 [(0, .ref (g.2.2)), (1, .int (iI a1)), (2, .int (iI a2)), (3, .int (iI a3))] []
    have J42 : ∀ (a2 a3 s0 : Int), GJ X 4 (mWo g (cx_s X).heap) Q (m5_find_j42 a1 a2 a3 s0 bk4) 42 [(0, .ref (g.2.2)), (1, .int (iI a1)), (2, .int (iI a2)), (3, .int (iI a3))] [.long (iL s0)] := by
      intro a2 a3 s0
      unfold m5_find_j42
      refine gj_aload_n C dX5_find_42 0 rfl ?_
      refine mj_getR (kf := 6) (j := 4) C K dX5_find_43 (by decide) (by decide) rfl (by decide) q1877 rfl ?_
      refine gj_aload_n C dX5_find_46 0 rfl ?_
      refine mj_getI (kf := 7) C K dX5_find_47 (by decide) (by decide) rfl q1878 rfl (fun v47 => ?_)
      refine mj_lald (j := 4) C K dX5_find_50 (by decide) rfl (fun v50 => ?_)
      refine gj_lcmp C dX5_find_51 ?_
      refine gj_dia (J := 60) (L := [(0, .ref (g.2.2)), (1, .int (iI a1)), (2, .int (iI a2)), (3, .int (iI a3))]) (st := []) (fun d60 => ?_) (fun t hJ => ?_)
      · skip
        refine gj_istore_n (L' := [(2, _), (0, _), (1, _), (3, _)]) C dX5_find_60 (by decide) rfl ?_
        refine gj_iinc (L' := [(3, _), (2, _), (0, _), (1, _)]) C dX5_find_61 3 rfl (by decide) rfl ?_
        refine gj_goto (tgt := 4) C dX5_find_64 (by decide) ?_
        exact gj_to [2, 3, 1, 0] (hb4 (d60, a3 + 1)) rfl
      · refine gj_if_ne (tgt := 59) C dX5_find_52 (by decide) (fun h52 => ?_) (fun h52 => ?_)
        · refine gj_iload_n C dX5_find_59 2 rfl ?_
          exact (by rw [if_neg h52] at hJ; exact hJ)
        · refine gj_iload_n C dX5_find_55 3 rfl ?_
          refine gj_goto (tgt := 60) C dX5_find_56 (by decide) ?_
          exact (by rw [if_pos h52] at hJ; exact hJ)
    have J20 : ∀ (a2 a3 s0 s1 : Int), GJ X 4 (mWo g (cx_s X).heap) Q (m5_find_j20 a1 a2 a3 s0 s1 bk4) 20 [(0, .ref (g.2.2)), (1, .int (iI a1)), (2, .int (iI a2)), (3, .int (iI a3))] [.int (iI s1), .int (iI s0)] := by
      intro a2 a3 s0 s1
      unfold m5_find_j20
      refine gj_icmp_ge (tgt := 67) C dX5_find_20 (by decide) rfl rfl (fun h20 => gj_neg h20 ?_) (fun h20 => gj_pos h20 ?_)
      · refine gj_iload_n C dX5_find_67 2 rfl ?_
        refine gj_nrmI ?_
        exact mj_iret C hQ hr dX5_find_68
      · refine gj_iload_n C dX5_find_23 1 rfl ?_
        refine gj_if_eq (tgt := 36) C dX5_find_24 (by decide) (fun h24 => gj_pos h24 ?_) (fun h24 => gj_neg h24 ?_)
        · refine gj_aload_n C dX5_find_36 0 rfl ?_
          refine mj_getR (kf := 14) (j := 9) C K dX5_find_37 (by decide) (by decide) rfl (by decide) q1885 rfl ?_
          refine gj_iload_n C dX5_find_40 3 rfl ?_
          refine mj_lald (j := 9) C K dX5_find_41 (by decide) rfl (fun v41 => ?_)
          exact gj_to [0, 1, 2, 3] (J42 a2 a3 v41) rfl
        · refine gj_aload_n C dX5_find_27 0 rfl ?_
          refine mj_getR (kf := 15) (j := 10) C K dX5_find_28 (by decide) (by decide) rfl (by decide) q1886 rfl ?_
          refine gj_iload_n C dX5_find_31 3 rfl ?_
          refine mj_lald (j := 10) C K dX5_find_32 (by decide) rfl (fun v32 => ?_)
          refine gj_goto (tgt := 42) C dX5_find_33 (by decide) ?_
          exact gj_to [0, 1, 2, 3] (J42 a2 a3 v32) rfl
    unfold m5_find_b4
    refine gj_iload_n C dX5_find_4 3 rfl ?_
    refine gj_iload_n C dX5_find_5 1 rfl ?_
    refine gj_if_eq (tgt := 16) C dX5_find_6 (by decide) (fun h6 => gj_pos h6 ?_) (fun h6 => gj_neg h6 ?_)
    · refine gj_aload_n C dX5_find_16 0 rfl ?_
      refine mj_getI (kf := 16) C K dX5_find_17 (by decide) (by decide) rfl q1887 rfl (fun v17 => ?_)
      exact gj_to [0, 1, 2, 3] (J20 a2 a3 a3 v17) rfl
    · refine gj_aload_n C dX5_find_9 0 rfl ?_
      refine mj_getI (kf := 17) C K dX5_find_10 (by decide) (by decide) rfl q1888 rfl (fun v10 => ?_)
      refine gj_goto (tgt := 20) C dX5_find_13 (by decide) ?_
      exact gj_to [0, 1, 2, 3] (J20 a2 a3 a3 v10) rfl
  unfold m5_find
  refine gj_iconst C dX5_find_0 ?_
  refine gj_istore_n (L' := [(2, _), (0, _), (1, _)]) C dX5_find_1 (by decide) rfl ?_
  refine gj_iconst C dX5_find_2 ?_
  refine gj_istore_n (L' := [(3, _), (2, _), (0, _), (1, _)]) C dX5_find_3 (by decide) rfl ?_
  exact gj_to [2, 3, 1, 0] (J4 a1 (-1) 0) rfl
def m5_wordHere_b5 (a1 a2 : Int) (a3 a4 : Int) (bk5 : (Int × Int) → MM Int) : MM Int :=
  pite (w32 a4 < w32 a2) (
    pbnd (m5_isWord (a1 + a4)) fun v16 =>
    plet (if w32 v16 = 0 then a3 else a4) fun d28 =>
    bk5 (d28, a4 + 1)) (
    pret (w32 a3))
def m5_wordHere_l5 (a1 a2 a3 a4 : Int) : MM Int :=
  ploop (fun (s : (Int × Int)) bk5 => m5_wordHere_b5 a1 a2 s.1 s.2 bk5) (a3, a4)
def m5_wordHere (a1 a2 : Int) : MM Int :=
  m5_wordHere_l5 a1 a2 (-1) 0
set_option maxHeartbeats 4000000 in
set_option maxRecDepth 100000 in
theorem met5_wordHere (l : Launch) (g : MG) (a1 a2 : Int) : MMet l g yX5_wordHere cX5_wordHere 5 (Option.some Jvm.ClassFile.FieldType.int) (1) [.ref (g.2.2), .int (iI a1), .int (iI a2)] (m5_wordHere a1 a2) rvI := by
  refine mj_start (by decide +kernel) rfl (Nat.le_of_ble_eq_true rfl) (fun X Q hl C K hQ hR hr => ?_)
  subst hl
  show GJ X 5 (mWo g (cx_s X).heap) Q (m5_wordHere a1 a2) 0 [(0, .ref (g.2.2)), (1, .int (iI a1)), (2, .int (iI a2))] []
  have J5 : ∀ (a1 a2 a3 a4 : Int), GJ X 5 (mWo g (cx_s X).heap) Q (m5_wordHere_l5 a1 a2 a3 a4) 5 [(0, .ref (g.2.2)), (1, .int (iI a1)), (2, .int (iI a2)), (3, .int (iI a3)), (4, .int (iI a4))] [] := by
    intro a1 a2 a3 a4
    unfold m5_wordHere_l5
    refine gj_loop (fun (s : (Int × Int)) => [(0, .ref (g.2.2)), (1, .int (iI a1)), (2, .int (iI a2)), (3, .int (iI (s.1))), (4, .int (iI (s.2)))]) (a3, a4) (fun bk5 hb5 s => ?_)
    obtain ⟨a3, a4⟩ := s
    show GJ X 5 (mWo g (cx_s X).heap) Q (m5_wordHere_b5 a1 a2 a3 a4 bk5) 5 [(0, .ref (g.2.2)), (1, .int (iI a1)), (2, .int (iI a2)), (3, .int (iI a3)), (4, .int (iI a4))] []
    unfold m5_wordHere_b5
    refine gj_iload C dX5_wordHere_5 4 rfl ?_
    refine gj_iload_n C dX5_wordHere_7 2 rfl ?_
    refine gj_icmp_ge (tgt := 35) C dX5_wordHere_8 (by decide) rfl rfl (fun h8 => gj_neg h8 ?_) (fun h8 => gj_pos h8 ?_)
    · refine gj_iload_n C dX5_wordHere_35 3 rfl ?_
      refine gj_nrmI ?_
      exact mj_iret C hQ hr dX5_wordHere_36
    · refine gj_aload_n C dX5_wordHere_11 0 rfl ?_
      refine gj_iload_n C dX5_wordHere_12 1 rfl ?_
      refine gj_iload C dX5_wordHere_13 4 rfl ?_
      refine gj_iadd C dX5_wordHere_15 ?_
      refine mj_callVI (As := [.int (iI ((a1 + a4)))]) (rest := []) C K dX5_wordHere_16 (met5_isWord (cx_l X) g (a1 + a4)) (lw_V q2026 q2028 qs61 q134 q2029) hy5_isWord hR (Nat.le_of_ble_eq_true rfl) (by decide) rfl rfl (Nat.zero_le _) (fun v16 => ?_)
      refine gj_dia (J := 28) (L := [(0, .ref (g.2.2)), (1, .int (iI a1)), (2, .int (iI a2)), (3, .int (iI a3)), (4, .int (iI a4))]) (st := []) (fun d28 => ?_) (fun t hJ => ?_)
      · skip
        refine gj_istore_n (L' := [(3, _), (0, _), (1, _), (2, _), (4, _)]) C dX5_wordHere_28 (by decide) rfl ?_
        refine gj_iinc (L' := [(4, _), (3, _), (0, _), (1, _), (2, _)]) C dX5_wordHere_29 4 rfl (by decide) rfl ?_
        refine gj_goto (tgt := 5) C dX5_wordHere_32 (by decide) ?_
        exact gj_to [2, 3, 4, 1, 0] (hb5 (d28, a4 + 1)) rfl
      · refine gj_if_eq (tgt := 27) C dX5_wordHere_19 (by decide) (fun h19 => ?_) (fun h19 => ?_)
        · refine gj_iload_n C dX5_wordHere_27 3 rfl ?_
          exact (by rw [if_pos h19] at hJ; exact hJ)
        · refine gj_iload C dX5_wordHere_22 4 rfl ?_
          refine gj_goto (tgt := 28) C dX5_wordHere_24 (by decide) ?_
          exact (by rw [if_neg h19] at hJ; exact hJ)
  unfold m5_wordHere
  refine gj_iconst C dX5_wordHere_0 ?_
  refine gj_istore_n (L' := [(3, _), (0, _), (1, _), (2, _)]) C dX5_wordHere_1 (by decide) rfl ?_
  refine gj_iconst C dX5_wordHere_2 ?_
  refine gj_istore (L' := [(4, _), (3, _), (0, _), (1, _), (2, _)]) C dX5_wordHere_3 (by decide) rfl ?_
  exact gj_to [2, 3, 4, 1, 0] (J5 a1 a2 (-1) 0) rfl
def m5_isName : MM Int :=
  pbnd (mget 8) fun v1 =>
  pite (w32 v1 = 0) (
    pbnd (mget 7) fun v12 =>
    pbnd (mrd 2 1002 v12) fun v15 =>
    pite (w32 v15 = 1) (
      pbnd (m5_wordHere 0 22) fun v24 =>
      pite (w32 v24 < 0) (
        pbnd (pzo 1) fun _ => pret 1) (
        pbnd (pzo 0) fun _ => pret 0)) (
      pbnd (pzo 0) fun _ => pret 0)) (
    pbnd (pzo 0) fun _ => pret 0)
set_option maxHeartbeats 4000000 in
set_option maxRecDepth 100000 in
theorem met5_isName (l : Launch) (g : MG) : MMet l g yX5_isName cX5_isName 1 (Option.some Jvm.ClassFile.FieldType.boolean) (2) [.ref (g.2.2)] (m5_isName) rvI := by
  refine mj_start (by decide +kernel) rfl (Nat.le_of_ble_eq_true rfl) (fun X Q hl C K hQ hR hr => ?_)
  subst hl
  show GJ X 1 (mWo g (cx_s X).heap) Q (m5_isName) 0 [(0, .ref (g.2.2))] []
  unfold m5_isName
  refine gj_aload_n C dX5_isName_0 0 rfl ?_
  refine mj_getI (kf := 8) C K dX5_isName_1 (by decide) (by decide) rfl q1879 rfl (fun v1 => ?_)
  refine gj_if_ne (tgt := 34) C dX5_isName_4 (by decide) (fun h4 => gj_neg h4 ?_) (fun h4 => gj_pos h4 ?_)
  · refine gj_iconst C dX5_isName_34 ?_
    exact mj_zret C hQ hr dX5_isName_35
  · refine gj_aload_n C dX5_isName_7 0 rfl ?_
    refine mj_getR (kf := 4) (j := 2) C K dX5_isName_8 (by decide) (by decide) rfl (by decide) q1875 rfl ?_
    refine gj_aload_n C dX5_isName_11 0 rfl ?_
    refine mj_getI (kf := 7) C K dX5_isName_12 (by decide) (by decide) rfl q1878 rfl (fun v12 => ?_)
    refine mj_iald (j := 2) C K dX5_isName_15 (by decide) rfl (fun v15 => ?_)
    refine gj_iconst C dX5_isName_16 ?_
    refine gj_icmp_ne (tgt := 34) (b' := 1) C dX5_isName_17 (by decide) rfl (by decide) (fun h17 => gj_neg h17 ?_) (fun h17 => gj_pos h17 ?_)
    · refine gj_iconst C dX5_isName_34 ?_
      exact mj_zret C hQ hr dX5_isName_35
    · refine gj_aload_n C dX5_isName_20 0 rfl ?_
      refine gj_iconst C dX5_isName_21 ?_
      refine gj_bipush C dX5_isName_22 rfl ?_
      refine mj_callVI (As := [.int (iI 0), .int (iI 22)]) (rest := []) C K dX5_isName_24 (met5_wordHere (cx_l X) g 0 22) (lw_V q2042 q2044 qs65 q134 q2045) hy5_wordHere hR (Nat.le_of_ble_eq_true rfl) (by decide) rfl rfl (Nat.zero_le _) (fun v24 => ?_)
      refine gj_if_ge (tgt := 34) C dX5_isName_27 (by decide) (fun h27 => gj_neg h27 ?_) (fun h27 => gj_pos h27 ?_)
      · refine gj_iconst C dX5_isName_34 ?_
        exact mj_zret C hQ hr dX5_isName_35
      · refine gj_iconst C dX5_isName_30 ?_
        refine gj_goto (tgt := 35) C dX5_isName_31 (by decide) ?_
        exact mj_zret C hQ hr dX5_isName_35
def m5_wrong (a1 : Int) : MM Unit :=
  pbnd (mget 8) fun v1 =>
  pite (w32 v1 = 0) (
    pbnd (mget 7) fun v16 =>
    pbnd (mrd 3 1002 v16) fun v19 =>
    pbnd (mput 8 (w32 (a1 + ((16 * v19))))) fun _ =>
    pret ()) (
    pret ())
set_option maxHeartbeats 4000000 in
set_option maxRecDepth 100000 in
theorem met5_wrong (l : Launch) (g : MG) (a1 : Int) : MMet l g yX5_wrong cX5_wrong 2 (Option.none : Option Jvm.ClassFile.FieldType) (0) [.ref (g.2.2), .int (iI a1)] (m5_wrong a1) rvV := by
  refine mj_start (by decide +kernel) rfl (Nat.le_of_ble_eq_true rfl) (fun X Q hl C K hQ hR hr => ?_)
  subst hl
  show GJ X 2 (mWo g (cx_s X).heap) Q (m5_wrong a1) 0 [(0, .ref (g.2.2)), (1, .int (iI a1))] []
  unfold m5_wrong
  refine gj_aload_n C dX5_wrong_0 0 rfl ?_
  refine mj_getI (kf := 8) C K dX5_wrong_1 (by decide) (by decide) rfl q1879 rfl (fun v1 => ?_)
  refine gj_if_ne (tgt := 25) C dX5_wrong_4 (by decide) (fun h4 => gj_neg h4 ?_) (fun h4 => gj_pos h4 ?_)
  · exact mj_vret C hQ hr dX5_wrong_25
  · refine gj_aload_n C dX5_wrong_7 0 rfl ?_
    refine gj_iload_n C dX5_wrong_8 1 rfl ?_
    refine gj_bipush C dX5_wrong_9 rfl ?_
    refine gj_aload_n C dX5_wrong_11 0 rfl ?_
    refine mj_getR (kf := 5) (j := 3) C K dX5_wrong_12 (by decide) (by decide) rfl (by decide) q1876 rfl ?_
    refine gj_aload_n C dX5_wrong_15 0 rfl ?_
    refine mj_getI (kf := 7) C K dX5_wrong_16 (by decide) (by decide) rfl q1878 rfl (fun v16 => ?_)
    refine mj_iald (j := 3) C K dX5_wrong_19 (by decide) rfl (fun v19 => ?_)
    refine gj_imul C dX5_wrong_20 ?_
    refine gj_iadd C dX5_wrong_21 ?_
    refine gj_nrmI ?_
    refine mj_putI (kf := 8) C K dX5_wrong_22 (by decide) (by decide) rfl q1879 rfl rfl (by decide +kernel) ?_
    exact mj_vret C hQ hr dX5_wrong_25
