/-! THE MODEL: its methods as pure programs, and that the machine runs so (toldHere, takeTold, readBar, emit, isSign, hasSign, hasWord, takeSign, products, sums, test, all, takePart, takeNumber, readOnce, takeWord, takeAfter, takeOne, readPerson): printed by gen.py -/
def m5_toldHere_j52 (a2 : Int) : MM Int :=
  pbnd (mget 8) fun v53 =>
  plet (if 0 < w32 v53 then 0 else a2) fun d64 =>
  pret (w32 d64)
def m5_toldHere_j35 (s0 : Int) : MM Int :=
  pbnd (mget 8) fun v37 =>
  pite (w32 v37 = 0) (
    pite (w32 s0 < 0) (
      pbnd (m5_wrong 2) fun _ =>
      m5_toldHere_j52 s0) (
      m5_toldHere_j52 s0)) (
    m5_toldHere_j52 s0)
def m5_toldHere_j19 (a1 : Int) : MM Int :=
  pbnd (mget 8) fun v20 =>
  pite (0 < w32 v20) (
    m5_toldHere_j35 (-1)) (
    pbnd (m5_find a1) fun v32 =>
    m5_toldHere_j35 v32)
def m5_toldHere (a1 : Int) : MM Int :=
  pbnd (mget 8) fun v1 =>
  pite (w32 v1 = 0) (
    pbnd (m5_isName) fun v8 =>
    pite (w32 v8 = 0) (
      pbnd (m5_wrong 1) fun _ =>
      m5_toldHere_j19 a1) (
      m5_toldHere_j19 a1)) (
    m5_toldHere_j19 a1)
set_option maxHeartbeats 4000000 in
set_option maxRecDepth 100000 in
theorem met5_toldHere (l : Launch) (g : MG) (a1 : Int) : MMet l g yX5_toldHere cX5_toldHere 3 (Option.some Jvm.ClassFile.FieldType.int) (3) [.ref (g.2.2), .int (iI a1)] (m5_toldHere a1) rvI := by
  refine mj_start (by decide +kernel) rfl (Nat.le_of_ble_eq_true rfl) (fun X Q hl C K hQ hR hr => ?_)
  subst hl
  show GJ X 3 (mWo g (cx_s X).heap) Q (m5_toldHere a1) 0 [(0, .ref (g.2.2)), (1, .int (iI a1))] []
  have J52 : ∀ (a2 : Int), GJ X 3 (mWo g (cx_s X).heap) Q (m5_toldHere_j52 a2) 52 [(0, .ref (g.2.2)), (2, .int (iI a2))] [] := by
    intro a2
    unfold m5_toldHere_j52
    refine gj_aload_n C dX5_toldHere_52 0 rfl ?_
    refine mj_getI (kf := 8) C K dX5_toldHere_53 (by decide) (by decide) rfl q1879 rfl (fun v53 => ?_)
    refine gj_dia (J := 64) (L := [(0, .ref (g.2.2)), (2, .int (iI a2))]) (st := []) (fun d64 => ?_) (fun t hJ => ?_)
    · skip
      refine gj_nrmI ?_
      exact mj_iret C hQ hr dX5_toldHere_64
    · refine gj_if_le (tgt := 63) C dX5_toldHere_56 (by decide) (fun h56 => ?_) (fun h56 => ?_)
      · refine gj_iload_n C dX5_toldHere_63 1 rfl ?_
        exact (by rw [if_neg h56] at hJ; exact hJ)
      · refine gj_iconst C dX5_toldHere_59 ?_
        refine gj_goto (tgt := 64) C dX5_toldHere_60 (by decide) ?_
        exact (by rw [if_pos h56] at hJ; exact hJ)
  have J35 : ∀ (s0 : Int), GJ X 3 (mWo g (cx_s X).heap) Q (m5_toldHere_j35 s0) 35 [(0, .ref (g.2.2))] [.int (iI s0)] := by
    intro s0
    unfold m5_toldHere_j35
    refine gj_istore_n (L' := [(2, _), (0, _)]) C dX5_toldHere_35 (by decide) rfl ?_
    refine gj_aload_n C dX5_toldHere_36 1 rfl ?_
    refine mj_getI (kf := 8) C K dX5_toldHere_37 (by decide) (by decide) rfl q1879 rfl (fun v37 => ?_)
    refine gj_if_ne (tgt := 52) C dX5_toldHere_40 (by decide) (fun h40 => gj_neg h40 ?_) (fun h40 => gj_pos h40 ?_)
    · exact gj_to [1, 0] (J52 s0) rfl
    · refine gj_iload_n C dX5_toldHere_43 0 rfl ?_
      refine gj_if_ge (tgt := 52) C dX5_toldHere_44 (by decide) (fun h44 => gj_neg h44 ?_) (fun h44 => gj_pos h44 ?_)
      · exact gj_to [1, 0] (J52 s0) rfl
      · refine gj_aload_n C dX5_toldHere_47 1 rfl ?_
        refine gj_iconst C dX5_toldHere_48 ?_
        refine mj_callVV (As := [.int (iI 2)]) (rest := []) C K dX5_toldHere_49 (met5_wrong (cx_l X) g 2) (lw_V q2034 q2036 qs63 q134 q2037) hy5_wrong hR (Nat.le_of_ble_eq_true rfl) (by decide) rfl rfl (Nat.zero_le _) ?_
        exact gj_to [1, 0] (J52 s0) rfl
  have J19 : ∀ (a1 : Int), GJ X 3 (mWo g (cx_s X).heap) Q (m5_toldHere_j19 a1) 19 [(0, .ref (g.2.2)), (1, .int (iI a1))] [] := by
    intro a1
    unfold m5_toldHere_j19
    refine gj_aload_n C dX5_toldHere_19 0 rfl ?_
    refine mj_getI (kf := 8) C K dX5_toldHere_20 (by decide) (by decide) rfl q1879 rfl (fun v20 => ?_)
    refine gj_if_le (tgt := 30) C dX5_toldHere_23 (by decide) (fun h23 => gj_neg h23 ?_) (fun h23 => gj_pos h23 ?_)
    · refine gj_aload_n C dX5_toldHere_30 0 rfl ?_
      refine gj_iload_n C dX5_toldHere_31 1 rfl ?_
      refine mj_callVI (As := [.int (iI a1)]) (rest := []) C K dX5_toldHere_32 (met5_find (cx_l X) g a1) (lw_V q2046 q2048 qs66 q134 q2049) hy5_find hR (Nat.le_of_ble_eq_true rfl) (by decide) rfl rfl (Nat.zero_le _) (fun v32 => ?_)
      exact gj_to [0] (J35 v32) rfl
    · refine gj_iconst C dX5_toldHere_26 ?_
      refine gj_goto (tgt := 35) C dX5_toldHere_27 (by decide) ?_
      exact gj_to [0] (J35 (-1)) rfl
  unfold m5_toldHere
  refine gj_aload_n C dX5_toldHere_0 0 rfl ?_
  refine mj_getI (kf := 8) C K dX5_toldHere_1 (by decide) (by decide) rfl q1879 rfl (fun v1 => ?_)
  refine gj_if_ne (tgt := 19) C dX5_toldHere_4 (by decide) (fun h4 => gj_neg h4 ?_) (fun h4 => gj_pos h4 ?_)
  · exact gj_to [0, 1] (J19 a1) rfl
  · refine gj_aload_n C dX5_toldHere_7 0 rfl ?_
    refine mj_callVI (As := []) (rest := []) C K dX5_toldHere_8 (met5_isName (cx_l X) g) (lw_V q2038 q2040 qs64 q134 q2041) hy5_isName hR (Nat.le_of_ble_eq_true rfl) (by decide) rfl rfl (Nat.zero_le _) (fun v8 => ?_)
    refine gj_if_ne (tgt := 19) C dX5_toldHere_11 (by decide) (fun h11 => gj_neg h11 ?_) (fun h11 => gj_pos h11 ?_)
    · exact gj_to [0, 1] (J19 a1) rfl
    · refine gj_aload_n C dX5_toldHere_14 0 rfl ?_
      refine gj_iconst C dX5_toldHere_15 ?_
      refine mj_callVV (As := [.int (iI 1)]) (rest := []) C K dX5_toldHere_16 (met5_wrong (cx_l X) g 1) (lw_V q2034 q2036 qs63 q134 q2037) hy5_wrong hR (Nat.le_of_ble_eq_true rfl) (by decide) rfl rfl (Nat.zero_le _) ?_
      exact gj_to [0, 1] (J19 a1) rfl
def m5_takeTold (a1 : Int) : MM Int :=
  pbnd (m5_toldHere a1) fun v2 =>
  pbnd (mget 7) fun v8 =>
  pbnd (mget 8) fun v12 =>
  plet (if 0 < w32 v12 then 0 else 1) fun d23 =>
  pbnd (mput 7 (w32 (v8 + d23))) fun _ =>
  pret v2
set_option maxHeartbeats 4000000 in
set_option maxRecDepth 100000 in
theorem met5_takeTold (l : Launch) (g : MG) (a1 : Int) : MMet l g yX5_takeTold cX5_takeTold 3 (Option.some Jvm.ClassFile.FieldType.int) (4) [.ref (g.2.2), .int (iI a1)] (m5_takeTold a1) rvI := by
  refine mj_start (by decide +kernel) rfl (Nat.le_of_ble_eq_true rfl) (fun X Q hl C K hQ hR hr => ?_)
  subst hl
  show GJ X 3 (mWo g (cx_s X).heap) Q (m5_takeTold a1) 0 [(0, .ref (g.2.2)), (1, .int (iI a1))] []
  unfold m5_takeTold
  refine gj_aload_n C dX5_takeTold_0 0 rfl ?_
  refine gj_iload_n C dX5_takeTold_1 1 rfl ?_
  refine mj_callVI (As := [.int (iI a1)]) (rest := []) C K dX5_takeTold_2 (met5_toldHere (cx_l X) g a1) (lw_V q2078 q2080 qs74 q134 q2081) hy5_toldHere hR (Nat.le_of_ble_eq_true rfl) (by decide) rfl rfl (Nat.zero_le _) (fun v2 => ?_)
  refine gj_istore_n (L' := [(2, _), (0, _), (1, _)]) C dX5_takeTold_5 (by decide) rfl ?_
  refine gj_aload_n C dX5_takeTold_6 1 rfl ?_
  refine gj_dup C dX5_takeTold_7 rfl ?_
  refine mj_getI (kf := 7) C K dX5_takeTold_8 (by decide) (by decide) rfl q1878 rfl (fun v8 => ?_)
  refine gj_aload_n C dX5_takeTold_11 1 rfl ?_
  refine mj_getI (kf := 8) C K dX5_takeTold_12 (by decide) (by decide) rfl q1879 rfl (fun v12 => ?_)
  refine gj_dia (J := 23) (L := [(2, .int (iI v2)), (0, .ref (g.2.2)), (1, .int (iI a1))]) (st := [.int (iI v8), .ref (g.2.2)]) (fun d23 => ?_) (fun t hJ => ?_)
  · skip
    refine gj_iadd C dX5_takeTold_23 ?_
    refine gj_nrmI ?_
    refine mj_putI (kf := 7) C K dX5_takeTold_24 (by decide) (by decide) rfl q1878 rfl rfl (by decide +kernel) ?_
    refine gj_iload_n C dX5_takeTold_27 0 rfl ?_
    exact mj_iret C hQ hr dX5_takeTold_28
  · refine gj_if_le (tgt := 22) C dX5_takeTold_15 (by decide) (fun h15 => ?_) (fun h15 => ?_)
    · refine gj_iconst C dX5_takeTold_22 ?_
      exact (by rw [if_neg h15] at hJ; exact hJ)
    · refine gj_iconst C dX5_takeTold_18 ?_
      refine gj_goto (tgt := 23) C dX5_takeTold_19 (by decide) ?_
      exact (by rw [if_pos h15] at hJ; exact hJ)
def m5_readBar_j57 (a1 a2 : Int) : MM Unit :=
  pbnd (mget 8) fun v58 =>
  pite (w32 v58 = 0) (
    pbnd (mget 7) fun v66 =>
    pbnd (mput 7 (w32 (v66 + 1))) fun _ =>
    pbnd (mwr 6 160 (((118 + ((6 * a1)))) + a2) 1) fun _ =>
    pbnd (mrd 6 160 81) fun v96 =>
    pbnd (mwr 6 160 81 (w32 (v96 + 1))) fun _ =>
    pret ()) (
    pret ())
def m5_readBar_j52 (a1 a2 : Int) : MM Unit :=
  pbnd (m5_wrong 3) fun _ =>
  m5_readBar_j57 a1 a2
def m5_readBar : MM Unit :=
  pbnd (mget 7) fun v2 =>
  pbnd (mput 7 (w32 (v2 + 1))) fun _ =>
  pbnd (m5_takeTold 1) fun v12 =>
  pbnd (m5_toldHere 1) fun v18 =>
  pbnd (mget 8) fun v23 =>
  pite (w32 v23 = 0) (
    pite (w32 v12 = w32 v18) (
      m5_readBar_j52 v12 v18) (
      pbnd (mrd 6 160 (((118 + ((6 * v12)))) + v18)) fun v47 =>
      pite (w32 v47 = 1) (
        m5_readBar_j52 v12 v18) (
        m5_readBar_j57 v12 v18))) (
    m5_readBar_j57 v12 v18)
set_option maxHeartbeats 4000000 in
set_option maxRecDepth 100000 in
theorem met5_readBar (l : Launch) (g : MG) : MMet l g yX5_readBar cX5_readBar 3 (Option.none : Option Jvm.ClassFile.FieldType) (5) [.ref (g.2.2)] (m5_readBar) rvV := by
  refine mj_start (by decide +kernel) rfl (Nat.le_of_ble_eq_true rfl) (fun X Q hl C K hQ hR hr => ?_)
  subst hl
  show GJ X 3 (mWo g (cx_s X).heap) Q (m5_readBar) 0 [(0, .ref (g.2.2))] []
  have J57 : ∀ (a1 a2 : Int), GJ X 3 (mWo g (cx_s X).heap) Q (m5_readBar_j57 a1 a2) 57 [(0, .ref (g.2.2)), (1, .int (iI a1)), (2, .int (iI a2))] [] := by
    intro a1 a2
    unfold m5_readBar_j57
    refine gj_aload_n C dX5_readBar_57 0 rfl ?_
    refine mj_getI (kf := 8) C K dX5_readBar_58 (by decide) (by decide) rfl q1879 rfl (fun v58 => ?_)
    refine gj_if_ne (tgt := 100) C dX5_readBar_61 (by decide) (fun h61 => gj_neg h61 ?_) (fun h61 => gj_pos h61 ?_)
    · exact mj_vret C hQ hr dX5_readBar_100
    · refine gj_aload_n C dX5_readBar_64 0 rfl ?_
      refine gj_dup C dX5_readBar_65 rfl ?_
      refine mj_getI (kf := 7) C K dX5_readBar_66 (by decide) (by decide) rfl q1878 rfl (fun v66 => ?_)
      refine gj_iconst C dX5_readBar_69 ?_
      refine gj_iadd C dX5_readBar_70 ?_
      refine gj_nrmI ?_
      refine mj_putI (kf := 7) C K dX5_readBar_71 (by decide) (by decide) rfl q1878 rfl rfl (by decide +kernel) ?_
      refine gj_aload_n C dX5_readBar_74 0 rfl ?_
      refine mj_getR (kf := 10) (j := 6) C K dX5_readBar_75 (by decide) (by decide) rfl (by decide) q1881 rfl ?_
      refine gj_bipush C dX5_readBar_78 rfl ?_
      refine gj_bipush C dX5_readBar_80 rfl ?_
      refine gj_iload_n C dX5_readBar_82 1 rfl ?_
      refine gj_imul C dX5_readBar_83 ?_
      refine gj_iadd C dX5_readBar_84 ?_
      refine gj_iload_n C dX5_readBar_85 2 rfl ?_
      refine gj_iadd C dX5_readBar_86 ?_
      refine gj_iconst C dX5_readBar_87 ?_
      refine mj_iast (j := 6) C K dX5_readBar_88 (by decide) (by decide) rfl ?_
      refine gj_aload_n C dX5_readBar_89 0 rfl ?_
      refine mj_getR (kf := 10) (j := 6) C K dX5_readBar_90 (by decide) (by decide) rfl (by decide) q1881 rfl ?_
      refine gj_bipush C dX5_readBar_93 rfl ?_
      refine gj_dup2 C dX5_readBar_95 rfl rfl ?_
      refine mj_iald (j := 6) C K dX5_readBar_96 (by decide) rfl (fun v96 => ?_)
      refine gj_iconst C dX5_readBar_97 ?_
      refine gj_iadd C dX5_readBar_98 ?_
      refine gj_nrmI ?_
      refine mj_iast (j := 6) C K dX5_readBar_99 (by decide) (by decide) rfl ?_
      exact mj_vret C hQ hr dX5_readBar_100
  have J52 : ∀ (a1 a2 : Int), GJ X 3 (mWo g (cx_s X).heap) Q (m5_readBar_j52 a1 a2) 52 [(0, .ref (g.2.2)), (1, .int (iI a1)), (2, .int (iI a2))] [] := by
    intro a1 a2
    unfold m5_readBar_j52
    refine gj_aload_n C dX5_readBar_52 0 rfl ?_
    refine gj_iconst C dX5_readBar_53 ?_
    refine mj_callVV (As := [.int (iI 3)]) (rest := []) C K dX5_readBar_54 (met5_wrong (cx_l X) g 3) (lw_V q2034 q2036 qs63 q134 q2037) hy5_wrong hR (Nat.le_of_ble_eq_true rfl) (by decide) rfl rfl (Nat.zero_le _) ?_
    exact gj_to [0, 1, 2] (J57 a1 a2) rfl
  unfold m5_readBar
  refine gj_aload_n C dX5_readBar_0 0 rfl ?_
  refine gj_dup C dX5_readBar_1 rfl ?_
  refine mj_getI (kf := 7) C K dX5_readBar_2 (by decide) (by decide) rfl q1878 rfl (fun v2 => ?_)
  refine gj_iconst C dX5_readBar_5 ?_
  refine gj_iadd C dX5_readBar_6 ?_
  refine gj_nrmI ?_
  refine mj_putI (kf := 7) C K dX5_readBar_7 (by decide) (by decide) rfl q1878 rfl rfl (by decide +kernel) ?_
  refine gj_aload_n C dX5_readBar_10 0 rfl ?_
  refine gj_iconst C dX5_readBar_11 ?_
  refine mj_callVI (As := [.int (iI 1)]) (rest := []) C K dX5_readBar_12 (met5_takeTold (cx_l X) g 1) (lw_V q2074 q2076 qs73 q134 q2077) hy5_takeTold hR (Nat.le_of_ble_eq_true rfl) (by decide) rfl rfl (Nat.zero_le _) (fun v12 => ?_)
  refine gj_istore_n (L' := [(1, _), (0, _)]) C dX5_readBar_15 (by decide) rfl ?_
  refine gj_aload_n C dX5_readBar_16 1 rfl ?_
  refine gj_iconst C dX5_readBar_17 ?_
  refine mj_callVI (As := [.int (iI 1)]) (rest := []) C K dX5_readBar_18 (met5_toldHere (cx_l X) g 1) (lw_V q2078 q2080 qs74 q134 q2081) hy5_toldHere hR (Nat.le_of_ble_eq_true rfl) (by decide) rfl rfl (Nat.zero_le _) (fun v18 => ?_)
  refine gj_istore_n (L' := [(2, _), (1, _), (0, _)]) C dX5_readBar_21 (by decide) rfl ?_
  refine gj_aload_n C dX5_readBar_22 2 rfl ?_
  refine mj_getI (kf := 8) C K dX5_readBar_23 (by decide) (by decide) rfl q1879 rfl (fun v23 => ?_)
  refine gj_if_ne (tgt := 57) C dX5_readBar_26 (by decide) (fun h26 => gj_neg h26 ?_) (fun h26 => gj_pos h26 ?_)
  · exact gj_to [2, 1, 0] (J57 v12 v18) rfl
  · refine gj_iload_n C dX5_readBar_29 1 rfl ?_
    refine gj_iload_n C dX5_readBar_30 0 rfl ?_
    refine gj_icmp_eq (tgt := 52) C dX5_readBar_31 (by decide) rfl rfl (fun h31 => gj_pos h31 ?_) (fun h31 => gj_neg h31 ?_)
    · exact gj_to [2, 1, 0] (J52 v12 v18) rfl
    · refine gj_aload_n C dX5_readBar_34 2 rfl ?_
      refine mj_getR (kf := 10) (j := 6) C K dX5_readBar_35 (by decide) (by decide) rfl (by decide) q1881 rfl ?_
      refine gj_bipush C dX5_readBar_38 rfl ?_
      refine gj_bipush C dX5_readBar_40 rfl ?_
      refine gj_iload_n C dX5_readBar_42 1 rfl ?_
      refine gj_imul C dX5_readBar_43 ?_
      refine gj_iadd C dX5_readBar_44 ?_
      refine gj_iload_n C dX5_readBar_45 0 rfl ?_
      refine gj_iadd C dX5_readBar_46 ?_
      refine mj_iald (j := 6) C K dX5_readBar_47 (by decide) rfl (fun v47 => ?_)
      refine gj_iconst C dX5_readBar_48 ?_
      refine gj_icmp_ne (tgt := 57) (b' := 1) C dX5_readBar_49 (by decide) rfl (by decide) (fun h49 => gj_neg h49 ?_) (fun h49 => gj_pos h49 ?_)
      · exact gj_to [2, 1, 0] (J57 v12 v18) rfl
      · exact gj_to [2, 1, 0] (J52 v12 v18) rfl
def m5_emit (a1 a2 : Int) : MM Unit :=
  pbnd (mget 13) fun v8 =>
  pbnd (mwr 7 2200 (1100 + v8) (w32 a1)) fun _ =>
  pbnd (mget 13) fun v22 =>
  pbnd (mwr 8 2200 (1100 + v22) (w32 a2)) fun _ =>
  pbnd (mget 13) fun v30 =>
  pbnd (mput 13 (w32 (v30 + 1))) fun _ =>
  pret ()
set_option maxHeartbeats 4000000 in
set_option maxRecDepth 100000 in
theorem met5_emit (l : Launch) (g : MG) (a1 a2 : Int) : MMet l g yX5_emit cX5_emit 3 (Option.none : Option Jvm.ClassFile.FieldType) (0) [.ref (g.2.2), .int (iI a1), .int (iI a2)] (m5_emit a1 a2) rvV := by
  refine mj_start (by decide +kernel) rfl (Nat.le_of_ble_eq_true rfl) (fun X Q hl C K hQ hR hr => ?_)
  subst hl
  show GJ X 3 (mWo g (cx_s X).heap) Q (m5_emit a1 a2) 0 [(0, .ref (g.2.2)), (1, .int (iI a1)), (2, .int (iI a2))] []
  unfold m5_emit
  refine gj_aload_n C dX5_emit_0 0 rfl ?_
  refine mj_getR (kf := 11) (j := 7) C K dX5_emit_1 (by decide) (by decide) rfl (by decide) q1882 rfl ?_
  refine gj_sipush C dX5_emit_4 rfl ?_
  refine gj_aload_n C dX5_emit_7 0 rfl ?_
  refine mj_getI (kf := 13) C K dX5_emit_8 (by decide) (by decide) rfl q1884 rfl (fun v8 => ?_)
  refine gj_iadd C dX5_emit_11 ?_
  refine gj_iload_n C dX5_emit_12 1 rfl ?_
  refine gj_nrmI ?_
  refine mj_iast (j := 7) C K dX5_emit_13 (by decide) (by decide) rfl ?_
  refine gj_aload_n C dX5_emit_14 0 rfl ?_
  refine mj_getR (kf := 12) (j := 8) C K dX5_emit_15 (by decide) (by decide) rfl (by decide) q1883 rfl ?_
  refine gj_sipush C dX5_emit_18 rfl ?_
  refine gj_aload_n C dX5_emit_21 0 rfl ?_
  refine mj_getI (kf := 13) C K dX5_emit_22 (by decide) (by decide) rfl q1884 rfl (fun v22 => ?_)
  refine gj_iadd C dX5_emit_25 ?_
  refine gj_iload_n C dX5_emit_26 2 rfl ?_
  refine gj_nrmI ?_
  refine mj_iast (j := 8) C K dX5_emit_27 (by decide) (by decide) rfl ?_
  refine gj_aload_n C dX5_emit_28 0 rfl ?_
  refine gj_dup C dX5_emit_29 rfl ?_
  refine mj_getI (kf := 13) C K dX5_emit_30 (by decide) (by decide) rfl q1884 rfl (fun v30 => ?_)
  refine gj_iconst C dX5_emit_33 ?_
  refine gj_iadd C dX5_emit_34 ?_
  refine gj_nrmI ?_
  refine mj_putI (kf := 13) C K dX5_emit_35 (by decide) (by decide) rfl q1884 rfl rfl (by decide +kernel) ?_
  exact mj_vret C hQ hr dX5_emit_38
def m5_isSign (a1 : Int) : MM Int :=
  pbnd (mget 8) fun v1 =>
  pite (w32 v1 = 0) (
    pbnd (mget 7) fun v12 =>
    pbnd (mrd 2 1002 v12) fun v15 =>
    pite (w32 v15 = 3) (
      pbnd (mget 7) fun v25 =>
      pbnd (mrd 4 1002 v25) fun v28 =>
      pite (w32 (lcmp' v28 (zi2l a1)) = 0) (
        pbnd (pzo 1) fun _ => pret 1) (
        pbnd (pzo 0) fun _ => pret 0)) (
      pbnd (pzo 0) fun _ => pret 0)) (
    pbnd (pzo 0) fun _ => pret 0)
set_option maxHeartbeats 4000000 in
set_option maxRecDepth 100000 in
theorem met5_isSign (l : Launch) (g : MG) (a1 : Int) : MMet l g yX5_isSign cX5_isSign 2 (Option.some Jvm.ClassFile.FieldType.boolean) (0) [.ref (g.2.2), .int (iI a1)] (m5_isSign a1) rvI := by
  refine mj_start (by decide +kernel) rfl (Nat.le_of_ble_eq_true rfl) (fun X Q hl C K hQ hR hr => ?_)
  subst hl
  show GJ X 2 (mWo g (cx_s X).heap) Q (m5_isSign a1) 0 [(0, .ref (g.2.2)), (1, .int (iI a1))] []
  unfold m5_isSign
  refine gj_aload_n C dX5_isSign_0 0 rfl ?_
  refine mj_getI (kf := 8) C K dX5_isSign_1 (by decide) (by decide) rfl q1879 rfl (fun v1 => ?_)
  refine gj_if_ne (tgt := 39) C dX5_isSign_4 (by decide) (fun h4 => gj_neg h4 ?_) (fun h4 => gj_pos h4 ?_)
  · refine gj_iconst C dX5_isSign_39 ?_
    exact mj_zret C hQ hr dX5_isSign_40
  · refine gj_aload_n C dX5_isSign_7 0 rfl ?_
    refine mj_getR (kf := 4) (j := 2) C K dX5_isSign_8 (by decide) (by decide) rfl (by decide) q1875 rfl ?_
    refine gj_aload_n C dX5_isSign_11 0 rfl ?_
    refine mj_getI (kf := 7) C K dX5_isSign_12 (by decide) (by decide) rfl q1878 rfl (fun v12 => ?_)
    refine mj_iald (j := 2) C K dX5_isSign_15 (by decide) rfl (fun v15 => ?_)
    refine gj_iconst C dX5_isSign_16 ?_
    refine gj_icmp_ne (tgt := 39) (b' := 3) C dX5_isSign_17 (by decide) rfl (by decide) (fun h17 => gj_neg h17 ?_) (fun h17 => gj_pos h17 ?_)
    · refine gj_iconst C dX5_isSign_39 ?_
      exact mj_zret C hQ hr dX5_isSign_40
    · refine gj_aload_n C dX5_isSign_20 0 rfl ?_
      refine mj_getR (kf := 6) (j := 4) C K dX5_isSign_21 (by decide) (by decide) rfl (by decide) q1877 rfl ?_
      refine gj_aload_n C dX5_isSign_24 0 rfl ?_
      refine mj_getI (kf := 7) C K dX5_isSign_25 (by decide) (by decide) rfl q1878 rfl (fun v25 => ?_)
      refine mj_lald (j := 4) C K dX5_isSign_28 (by decide) rfl (fun v28 => ?_)
      refine gj_iload_n C dX5_isSign_29 1 rfl ?_
      refine gj_i2l C dX5_isSign_30 ?_
      refine gj_lcmp C dX5_isSign_31 ?_
      refine gj_if_ne (tgt := 39) C dX5_isSign_32 (by decide) (fun h32 => gj_neg h32 ?_) (fun h32 => gj_pos h32 ?_)
      · refine gj_iconst C dX5_isSign_39 ?_
        exact mj_zret C hQ hr dX5_isSign_40
      · refine gj_iconst C dX5_isSign_35 ?_
        refine gj_goto (tgt := 40) C dX5_isSign_36 (by decide) ?_
        exact mj_zret C hQ hr dX5_isSign_40
def m5_hasSign (a1 : Int) : MM Int :=
  pbnd (m5_isSign a1) fun v2 =>
  pbnd (mget 7) fun v8 =>
  plet (if w32 v2 = 0 then 0 else 1) fun d20 =>
  pbnd (mput 7 (w32 (v8 + d20))) fun _ =>
  pbnd (pzo v2) fun _ => pret v2
set_option maxHeartbeats 4000000 in
set_option maxRecDepth 100000 in
theorem met5_hasSign (l : Launch) (g : MG) (a1 : Int) : MMet l g yX5_hasSign cX5_hasSign 3 (Option.some Jvm.ClassFile.FieldType.boolean) (1) [.ref (g.2.2), .int (iI a1)] (m5_hasSign a1) rvI := by
  refine mj_start (by decide +kernel) rfl (Nat.le_of_ble_eq_true rfl) (fun X Q hl C K hQ hR hr => ?_)
  subst hl
  show GJ X 3 (mWo g (cx_s X).heap) Q (m5_hasSign a1) 0 [(0, .ref (g.2.2)), (1, .int (iI a1))] []
  unfold m5_hasSign
  refine gj_aload_n C dX5_hasSign_0 0 rfl ?_
  refine gj_iload_n C dX5_hasSign_1 1 rfl ?_
  refine mj_callVI (As := [.int (iI a1)]) (rest := []) C K dX5_hasSign_2 (met5_isSign (cx_l X) g a1) (lw_V q2106 q2108 qs81 q134 q2109) hy5_isSign hR (Nat.le_of_ble_eq_true rfl) (by decide) rfl rfl (Nat.zero_le _) (fun v2 => ?_)
  refine gj_istore_n (L' := [(2, _), (0, _), (1, _)]) C dX5_hasSign_5 (by decide) rfl ?_
  refine gj_aload_n C dX5_hasSign_6 1 rfl ?_
  refine gj_dup C dX5_hasSign_7 rfl ?_
  refine mj_getI (kf := 7) C K dX5_hasSign_8 (by decide) (by decide) rfl q1878 rfl (fun v8 => ?_)
  refine gj_iload_n C dX5_hasSign_11 0 rfl ?_
  refine gj_dia (J := 20) (L := [(2, .int (iI v2)), (0, .ref (g.2.2)), (1, .int (iI a1))]) (st := [.int (iI v8), .ref (g.2.2)]) (fun d20 => ?_) (fun t hJ => ?_)
  · skip
    refine gj_iadd C dX5_hasSign_20 ?_
    refine gj_nrmI ?_
    refine mj_putI (kf := 7) C K dX5_hasSign_21 (by decide) (by decide) rfl q1878 rfl rfl (by decide +kernel) ?_
    refine gj_iload_n C dX5_hasSign_24 0 rfl ?_
    exact mj_zret C hQ hr dX5_hasSign_25
  · refine gj_if_eq (tgt := 19) C dX5_hasSign_12 (by decide) (fun h12 => ?_) (fun h12 => ?_)
    · refine gj_iconst C dX5_hasSign_19 ?_
      exact (by rw [if_pos h12] at hJ; exact hJ)
    · refine gj_iconst C dX5_hasSign_15 ?_
      refine gj_goto (tgt := 20) C dX5_hasSign_16 (by decide) ?_
      exact (by rw [if_neg h12] at hJ; exact hJ)
def m5_hasWord (a1 : Int) : MM Int :=
  pbnd (m5_isWord a1) fun v2 =>
  pbnd (mget 7) fun v8 =>
  plet (if w32 v2 = 0 then 0 else 1) fun d20 =>
  pbnd (mput 7 (w32 (v8 + d20))) fun _ =>
  pbnd (pzo v2) fun _ => pret v2
set_option maxHeartbeats 4000000 in
set_option maxRecDepth 100000 in
theorem met5_hasWord (l : Launch) (g : MG) (a1 : Int) : MMet l g yX5_hasWord cX5_hasWord 3 (Option.some Jvm.ClassFile.FieldType.boolean) (1) [.ref (g.2.2), .int (iI a1)] (m5_hasWord a1) rvI := by
  refine mj_start (by decide +kernel) rfl (Nat.le_of_ble_eq_true rfl) (fun X Q hl C K hQ hR hr => ?_)
  subst hl
  show GJ X 3 (mWo g (cx_s X).heap) Q (m5_hasWord a1) 0 [(0, .ref (g.2.2)), (1, .int (iI a1))] []
  unfold m5_hasWord
  refine gj_aload_n C dX5_hasWord_0 0 rfl ?_
  refine gj_iload_n C dX5_hasWord_1 1 rfl ?_
  refine mj_callVI (As := [.int (iI a1)]) (rest := []) C K dX5_hasWord_2 (met5_isWord (cx_l X) g a1) (lw_V q2026 q2028 qs61 q134 q2029) hy5_isWord hR (Nat.le_of_ble_eq_true rfl) (by decide) rfl rfl (Nat.zero_le _) (fun v2 => ?_)
  refine gj_istore_n (L' := [(2, _), (0, _), (1, _)]) C dX5_hasWord_5 (by decide) rfl ?_
  refine gj_aload_n C dX5_hasWord_6 1 rfl ?_
  refine gj_dup C dX5_hasWord_7 rfl ?_
  refine mj_getI (kf := 7) C K dX5_hasWord_8 (by decide) (by decide) rfl q1878 rfl (fun v8 => ?_)
  refine gj_iload_n C dX5_hasWord_11 0 rfl ?_
  refine gj_dia (J := 20) (L := [(2, .int (iI v2)), (0, .ref (g.2.2)), (1, .int (iI a1))]) (st := [.int (iI v8), .ref (g.2.2)]) (fun d20 => ?_) (fun t hJ => ?_)
  · skip
    refine gj_iadd C dX5_hasWord_20 ?_
    refine gj_nrmI ?_
    refine mj_putI (kf := 7) C K dX5_hasWord_21 (by decide) (by decide) rfl q1878 rfl rfl (by decide +kernel) ?_
    refine gj_iload_n C dX5_hasWord_24 0 rfl ?_
    exact mj_zret C hQ hr dX5_hasWord_25
  · refine gj_if_eq (tgt := 19) C dX5_hasWord_12 (by decide) (fun h12 => ?_) (fun h12 => ?_)
    · refine gj_iconst C dX5_hasWord_19 ?_
      exact (by rw [if_pos h12] at hJ; exact hJ)
    · refine gj_iconst C dX5_hasWord_15 ?_
      refine gj_goto (tgt := 20) C dX5_hasWord_16 (by decide) ?_
      exact (by rw [if_neg h12] at hJ; exact hJ)
def m5_takeSign (a1 : Int) : MM Unit :=
  pbnd (m5_isSign a1) fun v2 =>
  pite (w32 v2 = 0) (
    pbnd (m5_wrong 1) fun _ =>
    pret ()) (
    pbnd (mget 7) fun v10 =>
    pbnd (mput 7 (w32 (v10 + 1))) fun _ =>
    pret ())
set_option maxHeartbeats 4000000 in
set_option maxRecDepth 100000 in
theorem met5_takeSign (l : Launch) (g : MG) (a1 : Int) : MMet l g yX5_takeSign cX5_takeSign 2 (Option.none : Option Jvm.ClassFile.FieldType) (1) [.ref (g.2.2), .int (iI a1)] (m5_takeSign a1) rvV := by
  refine mj_start (by decide +kernel) rfl (Nat.le_of_ble_eq_true rfl) (fun X Q hl C K hQ hR hr => ?_)
  subst hl
  show GJ X 2 (mWo g (cx_s X).heap) Q (m5_takeSign a1) 0 [(0, .ref (g.2.2)), (1, .int (iI a1))] []
  unfold m5_takeSign
  refine gj_aload_n C dX5_takeSign_0 0 rfl ?_
  refine gj_iload_n C dX5_takeSign_1 1 rfl ?_
  refine mj_callVI (As := [.int (iI a1)]) (rest := []) C K dX5_takeSign_2 (met5_isSign (cx_l X) g a1) (lw_V q2106 q2108 qs81 q134 q2109) hy5_isSign hR (Nat.le_of_ble_eq_true rfl) (by decide) rfl rfl (Nat.zero_le _) (fun v2 => ?_)
  refine gj_if_eq (tgt := 21) C dX5_takeSign_5 (by decide) (fun h5 => gj_pos h5 ?_) (fun h5 => gj_neg h5 ?_)
  · refine gj_aload_n C dX5_takeSign_21 0 rfl ?_
    refine gj_iconst C dX5_takeSign_22 ?_
    refine mj_callVV (As := [.int (iI 1)]) (rest := []) C K dX5_takeSign_23 (met5_wrong (cx_l X) g 1) (lw_V q2034 q2036 qs63 q134 q2037) hy5_wrong hR (Nat.le_of_ble_eq_true rfl) (by decide) rfl rfl (Nat.zero_le _) ?_
    exact mj_vret C hQ hr dX5_takeSign_26
  · refine gj_aload_n C dX5_takeSign_8 0 rfl ?_
    refine gj_dup C dX5_takeSign_9 rfl ?_
    refine mj_getI (kf := 7) C K dX5_takeSign_10 (by decide) (by decide) rfl q1878 rfl (fun v10 => ?_)
    refine gj_iconst C dX5_takeSign_13 ?_
    refine gj_iadd C dX5_takeSign_14 ?_
    refine gj_nrmI ?_
    refine mj_putI (kf := 7) C K dX5_takeSign_15 (by decide) (by decide) rfl q1878 rfl rfl (by decide +kernel) ?_
    refine gj_goto (tgt := 26) C dX5_takeSign_18 (by decide) ?_
    exact mj_vret C hQ hr dX5_takeSign_26
def m5_products_b5 (tp : Int → MM Unit) (a1 : Int) (bk5 : Unit → MM Unit) : MM Unit :=
  pbnd (m5_hasSign 42) fun v8 =>
  pite (w32 v8 = 0) (
    pret ()) (
    pbnd (tp a1) fun _ =>
    pbnd (m5_emit 6 0) fun _ =>
    bk5 ())
def m5_products_l5 (tp : Int → MM Unit) (a1 : Int) : MM Unit :=
  ploop (fun (s : Unit) bk5 => m5_products_b5 tp a1 bk5) ()
def m5_products (tp : Int → MM Unit) (a1 : Int) : MM Unit :=
  pbnd (tp a1) fun _ =>
  m5_products_l5 tp a1
set_option maxHeartbeats 4000000 in
set_option maxRecDepth 100000 in
theorem met5_products (l : Launch) (g : MG) {kT : Nat} (hkT : 10 ≤ kT) {tp : Int → MM Unit} (hTP : ∀ a1 : Int, MMet l g yX5_takePart cX5_takePart 4 (Option.none : Option Jvm.ClassFile.FieldType) (kT) [.ref g.2.2, .int (iI a1)] (tp a1) rvV) (a1 : Int) : MMet l g yX5_products cX5_products 2 (Option.none : Option Jvm.ClassFile.FieldType) (kT + 1) [.ref (g.2.2), .int (iI a1)] (m5_products tp a1) rvV := by
  refine mj_start (by decide +kernel) rfl (Nat.le_of_ble_eq_true rfl) (fun X Q hl C K hQ hR hr => ?_)
  subst hl
  show GJ X 2 (mWo g (cx_s X).heap) Q (m5_products tp a1) 0 [(0, .ref (g.2.2)), (1, .int (iI a1))] []
  have J5 : ∀ (a1 : Int), GJ X 2 (mWo g (cx_s X).heap) Q (m5_products_l5 tp a1) 5 [(0, .ref (g.2.2)), (1, .int (iI a1))] [] := by
    intro a1
    unfold m5_products_l5
    refine gj_loop (fun (s : Unit) => [(0, .ref (g.2.2)), (1, .int (iI a1))]) () (fun bk5 hb5 s => ?_)
    show GJ X 2 (mWo g (cx_s X).heap) Q (m5_products_b5 tp a1 bk5) 5 [(0, .ref (g.2.2)), (1, .int (iI a1))] []
    unfold m5_products_b5
    refine gj_aload_n C dX5_products_5 0 rfl ?_
    refine gj_bipush C dX5_products_6 rfl ?_
    refine mj_callVI (As := [.int (iI 42)]) (rest := []) C K dX5_products_8 (met5_hasSign (cx_l X) g 42) (lw_V q2114 q2116 qs83 q134 q2117) hy5_hasSign hR (by omega) (by decide) rfl rfl (Nat.zero_le _) (fun v8 => ?_)
    refine gj_if_eq (tgt := 29) C dX5_products_11 (by decide) (fun h11 => gj_pos h11 ?_) (fun h11 => gj_neg h11 ?_)
    · exact mj_vret C hQ hr dX5_products_29
    · refine gj_aload_n C dX5_products_14 0 rfl ?_
      refine gj_iload_n C dX5_products_15 1 rfl ?_
      refine mj_callVV (As := [.int (iI a1)]) (rest := []) C K dX5_products_16 (hTP a1) (lw_V q2102 q2104 qs80 q134 q2105) hy5_takePart hR (by omega) (by decide) rfl rfl (Nat.zero_le _) ?_
      refine gj_aload_n C dX5_products_19 0 rfl ?_
      refine gj_bipush C dX5_products_20 rfl ?_
      refine gj_iconst C dX5_products_22 ?_
      refine mj_callVV (As := [.int (iI 6), .int (iI 0)]) (rest := []) C K dX5_products_23 (met5_emit (cx_l X) g 6 0) (lw_V q2110 q2112 qs82 q134 q2113) hy5_emit hR (by omega) (by decide) rfl rfl (Nat.zero_le _) ?_
      refine gj_goto (tgt := 5) C dX5_products_26 (by decide) ?_
      exact gj_to [0, 1] (hb5 ()) rfl
  unfold m5_products
  refine gj_aload_n C dX5_products_0 0 rfl ?_
  refine gj_iload_n C dX5_products_1 1 rfl ?_
  refine mj_callVV (As := [.int (iI a1)]) (rest := []) C K dX5_products_2 (hTP a1) (lw_V q2102 q2104 qs80 q134 q2105) hy5_takePart hR (by omega) (by decide) rfl rfl (Nat.zero_le _) ?_
  exact gj_to [0, 1] (J5 a1) rfl
def m5_sums_j23 (tp : Int → MM Unit) (a1 : Int) (bk5 : Unit → MM Unit) : MM Unit :=
  pbnd (m5_isSign 43) fun v26 =>
  pbnd (mget 7) fun v32 =>
  pbnd (mput 7 (w32 (v32 + 1))) fun _ =>
  pbnd (m5_products tp a1) fun _ =>
  plet (if w32 v26 = 0 then 5 else 4) fun d55 =>
  pbnd (m5_emit d55 0) fun _ =>
  bk5 ()
def m5_sums_b5 (tp : Int → MM Unit) (a1 : Int) (bk5 : Unit → MM Unit) : MM Unit :=
  pbnd (m5_isSign 43) fun v8 =>
  pite (w32 v8 = 0) (
    pbnd (m5_isSign 45) fun v17 =>
    pite (w32 v17 = 0) (
      pret ()) (
      m5_sums_j23 tp a1 bk5)) (
    m5_sums_j23 tp a1 bk5)
def m5_sums_l5 (tp : Int → MM Unit) (a1 : Int) : MM Unit :=
  ploop (fun (s : Unit) bk5 => m5_sums_b5 tp a1 bk5) ()
def m5_sums (tp : Int → MM Unit) (a1 : Int) : MM Unit :=
  pbnd (m5_products tp a1) fun _ =>
  m5_sums_l5 tp a1
set_option maxHeartbeats 4000000 in
set_option maxRecDepth 100000 in
theorem met5_sums (l : Launch) (g : MG) {kT : Nat} (hkT : 10 ≤ kT) {tp : Int → MM Unit} (hTP : ∀ a1 : Int, MMet l g yX5_takePart cX5_takePart 4 (Option.none : Option Jvm.ClassFile.FieldType) (kT) [.ref g.2.2, .int (iI a1)] (tp a1) rvV) (a1 : Int) : MMet l g yX5_sums cX5_sums 3 (Option.none : Option Jvm.ClassFile.FieldType) (kT + 2) [.ref (g.2.2), .int (iI a1)] (m5_sums tp a1) rvV := by
  refine mj_start (by decide +kernel) rfl (Nat.le_of_ble_eq_true rfl) (fun X Q hl C K hQ hR hr => ?_)
  subst hl
  show GJ X 3 (mWo g (cx_s X).heap) Q (m5_sums tp a1) 0 [(0, .ref (g.2.2)), (1, .int (iI a1))] []
  have J5 : ∀ (a1 : Int), GJ X 3 (mWo g (cx_s X).heap) Q (m5_sums_l5 tp a1) 5 [(0, .ref (g.2.2)), (1, .int (iI a1))] [] := by
    intro a1
    unfold m5_sums_l5
    refine gj_loop (fun (s : Unit) => [(0, .ref (g.2.2)), (1, .int (iI a1))]) () (fun bk5 hb5 s => ?_)
    show GJ X 3 (mWo g (cx_s X).heap) Q (m5_sums_b5 tp a1 bk5) 5 [(0, .ref (g.2.2)), (1, .int (iI a1))] []
    have J23 : GJ X 3 (mWo g (cx_s X).heap) Q (m5_sums_j23 tp a1 bk5) 23 [(0, .ref (g.2.2)), (1, .int (iI a1))] [] := by
      unfold m5_sums_j23
      refine gj_aload_n C dX5_sums_23 0 rfl ?_
      refine gj_bipush C dX5_sums_24 rfl ?_
      refine mj_callVI (As := [.int (iI 43)]) (rest := []) C K dX5_sums_26 (met5_isSign (cx_l X) g 43) (lw_V q2106 q2108 qs81 q134 q2109) hy5_isSign hR (by omega) (by decide) rfl rfl (Nat.zero_le _) (fun v26 => ?_)
      refine gj_istore_n (L' := [(2, _), (0, _), (1, _)]) C dX5_sums_29 (by decide) rfl ?_
      refine gj_aload_n C dX5_sums_30 1 rfl ?_
      refine gj_dup C dX5_sums_31 rfl ?_
      refine mj_getI (kf := 7) C K dX5_sums_32 (by decide) (by decide) rfl q1878 rfl (fun v32 => ?_)
      refine gj_iconst C dX5_sums_35 ?_
      refine gj_iadd C dX5_sums_36 ?_
      refine gj_nrmI ?_
      refine mj_putI (kf := 7) C K dX5_sums_37 (by decide) (by decide) rfl q1878 rfl rfl (by decide +kernel) ?_
      refine gj_aload_n C dX5_sums_40 1 rfl ?_
      refine gj_iload_n C dX5_sums_41 2 rfl ?_
      refine mj_callVV (As := [.int (iI a1)]) (rest := []) C K dX5_sums_42 (met5_products (cx_l X) g hkT hTP a1) (lw_V q2098 q2100 qs79 q134 q2101) hy5_products hR (by omega) (by decide) rfl rfl (Nat.zero_le _) ?_
      refine gj_aload_n C dX5_sums_45 1 rfl ?_
      refine gj_iload_n C dX5_sums_46 0 rfl ?_
      refine gj_dia (J := 55) (L := [(2, .int (iI v26)), (0, .ref (g.2.2)), (1, .int (iI a1))]) (st := [.ref (g.2.2)]) (fun d55 => ?_) (fun t hJ => ?_)
      · skip
        refine gj_iconst C dX5_sums_55 ?_
        refine mj_callVV (As := [.int (iI d55), .int (iI 0)]) (rest := []) C K dX5_sums_56 (met5_emit (cx_l X) g d55 0) (lw_V q2110 q2112 qs82 q134 q2113) hy5_emit hR (by omega) (by decide) rfl rfl (Nat.zero_le _) ?_
        refine gj_goto (tgt := 5) C dX5_sums_59 (by decide) ?_
        exact gj_to [1, 2] (hb5 ()) rfl
      · refine gj_if_eq (tgt := 54) C dX5_sums_47 (by decide) (fun h47 => ?_) (fun h47 => ?_)
        · refine gj_iconst C dX5_sums_54 ?_
          exact (by rw [if_pos h47] at hJ; exact hJ)
        · refine gj_iconst C dX5_sums_50 ?_
          refine gj_goto (tgt := 55) C dX5_sums_51 (by decide) ?_
          exact (by rw [if_neg h47] at hJ; exact hJ)
    unfold m5_sums_b5
    refine gj_aload_n C dX5_sums_5 0 rfl ?_
    refine gj_bipush C dX5_sums_6 rfl ?_
    refine mj_callVI (As := [.int (iI 43)]) (rest := []) C K dX5_sums_8 (met5_isSign (cx_l X) g 43) (lw_V q2106 q2108 qs81 q134 q2109) hy5_isSign hR (by omega) (by decide) rfl rfl (Nat.zero_le _) (fun v8 => ?_)
    refine gj_if_ne (tgt := 23) C dX5_sums_11 (by decide) (fun h11 => gj_neg h11 ?_) (fun h11 => gj_pos h11 ?_)
    · exact gj_to [0, 1] (J23) rfl
    · refine gj_aload_n C dX5_sums_14 0 rfl ?_
      refine gj_bipush C dX5_sums_15 rfl ?_
      refine mj_callVI (As := [.int (iI 45)]) (rest := []) C K dX5_sums_17 (met5_isSign (cx_l X) g 45) (lw_V q2106 q2108 qs81 q134 q2109) hy5_isSign hR (by omega) (by decide) rfl rfl (Nat.zero_le _) (fun v17 => ?_)
      refine gj_if_eq (tgt := 62) C dX5_sums_20 (by decide) (fun h20 => gj_pos h20 ?_) (fun h20 => gj_neg h20 ?_)
      · exact mj_vret C hQ hr dX5_sums_62
      · exact gj_to [0, 1] (J23) rfl
  unfold m5_sums
  refine gj_aload_n C dX5_sums_0 0 rfl ?_
  refine gj_iload_n C dX5_sums_1 1 rfl ?_
  refine mj_callVV (As := [.int (iI a1)]) (rest := []) C K dX5_sums_2 (met5_products (cx_l X) g hkT hTP a1) (lw_V q2098 q2100 qs79 q134 q2101) hy5_products hR (by omega) (by decide) rfl rfl (Nat.zero_le _) ?_
  exact gj_to [0, 1] (J5 a1) rfl
def m5_test_j30 (tp : Int → MM Unit) (a1 a2 : Int) : MM Unit :=
  pbnd (m5_sums tp a1) fun _ =>
  plet (if w32 a2 = 0 then 8 else 7) fun d47 =>
  pbnd (m5_emit d47 0) fun _ =>
  pret ()
def m5_test (tp : Int → MM Unit) (a1 : Int) : MM Unit :=
  pbnd (m5_sums tp a1) fun _ =>
  pbnd (m5_isSign 60) fun v8 =>
  pbnd (m5_hasSign 60) fun v15 =>
  pite (w32 v15 = 0) (
    pbnd (m5_hasSign 61) fun v24 =>
    pite (w32 v24 = 0) (
      pret ()) (
      m5_test_j30 tp a1 v8)) (
    m5_test_j30 tp a1 v8)
set_option maxHeartbeats 4000000 in
set_option maxRecDepth 100000 in
theorem met5_test (l : Launch) (g : MG) {kT : Nat} (hkT : 10 ≤ kT) {tp : Int → MM Unit} (hTP : ∀ a1 : Int, MMet l g yX5_takePart cX5_takePart 4 (Option.none : Option Jvm.ClassFile.FieldType) (kT) [.ref g.2.2, .int (iI a1)] (tp a1) rvV) (a1 : Int) : MMet l g yX5_test cX5_test 3 (Option.none : Option Jvm.ClassFile.FieldType) (kT + 3) [.ref (g.2.2), .int (iI a1)] (m5_test tp a1) rvV := by
  refine mj_start (by decide +kernel) rfl (Nat.le_of_ble_eq_true rfl) (fun X Q hl C K hQ hR hr => ?_)
  subst hl
  show GJ X 3 (mWo g (cx_s X).heap) Q (m5_test tp a1) 0 [(0, .ref (g.2.2)), (1, .int (iI a1))] []
  have J30 : ∀ (a1 a2 : Int), GJ X 3 (mWo g (cx_s X).heap) Q (m5_test_j30 tp a1 a2) 30 [(0, .ref (g.2.2)), (1, .int (iI a1)), (2, .int (iI a2))] [] := by
    intro a1 a2
    unfold m5_test_j30
    refine gj_aload_n C dX5_test_30 0 rfl ?_
    refine gj_iload_n C dX5_test_31 1 rfl ?_
    refine mj_callVV (As := [.int (iI a1)]) (rest := []) C K dX5_test_32 (met5_sums (cx_l X) g hkT hTP a1) (lw_V q2094 q2096 qs78 q134 q2097) hy5_sums hR (by omega) (by decide) rfl rfl (Nat.zero_le _) ?_
    refine gj_aload_n C dX5_test_35 0 rfl ?_
    refine gj_iload_n C dX5_test_36 2 rfl ?_
    refine gj_dia (J := 47) (L := [(0, .ref (g.2.2)), (1, .int (iI a1)), (2, .int (iI a2))]) (st := [.ref (g.2.2)]) (fun d47 => ?_) (fun t hJ => ?_)
    · skip
      refine gj_iconst C dX5_test_47 ?_
      refine mj_callVV (As := [.int (iI d47), .int (iI 0)]) (rest := []) C K dX5_test_48 (met5_emit (cx_l X) g d47 0) (lw_V q2110 q2112 qs82 q134 q2113) hy5_emit hR (by omega) (by decide) rfl rfl (Nat.zero_le _) ?_
      exact mj_vret C hQ hr dX5_test_51
    · refine gj_if_eq (tgt := 45) C dX5_test_37 (by decide) (fun h37 => ?_) (fun h37 => ?_)
      · refine gj_bipush C dX5_test_45 rfl ?_
        exact (by rw [if_pos h37] at hJ; exact hJ)
      · refine gj_bipush C dX5_test_40 rfl ?_
        refine gj_goto (tgt := 47) C dX5_test_42 (by decide) ?_
        exact (by rw [if_neg h37] at hJ; exact hJ)
  unfold m5_test
  refine gj_aload_n C dX5_test_0 0 rfl ?_
  refine gj_iload_n C dX5_test_1 1 rfl ?_
  refine mj_callVV (As := [.int (iI a1)]) (rest := []) C K dX5_test_2 (met5_sums (cx_l X) g hkT hTP a1) (lw_V q2094 q2096 qs78 q134 q2097) hy5_sums hR (by omega) (by decide) rfl rfl (Nat.zero_le _) ?_
  refine gj_aload_n C dX5_test_5 0 rfl ?_
  refine gj_bipush C dX5_test_6 rfl ?_
  refine mj_callVI (As := [.int (iI 60)]) (rest := []) C K dX5_test_8 (met5_isSign (cx_l X) g 60) (lw_V q2106 q2108 qs81 q134 q2109) hy5_isSign hR (by omega) (by decide) rfl rfl (Nat.zero_le _) (fun v8 => ?_)
  refine gj_istore_n (L' := [(2, _), (0, _), (1, _)]) C dX5_test_11 (by decide) rfl ?_
  refine gj_aload_n C dX5_test_12 1 rfl ?_
  refine gj_bipush C dX5_test_13 rfl ?_
  refine mj_callVI (As := [.int (iI 60)]) (rest := []) C K dX5_test_15 (met5_hasSign (cx_l X) g 60) (lw_V q2114 q2116 qs83 q134 q2117) hy5_hasSign hR (by omega) (by decide) rfl rfl (Nat.zero_le _) (fun v15 => ?_)
  refine gj_if_ne (tgt := 30) C dX5_test_18 (by decide) (fun h18 => gj_neg h18 ?_) (fun h18 => gj_pos h18 ?_)
  · exact gj_to [1, 2, 0] (J30 a1 v8) rfl
  · refine gj_aload_n C dX5_test_21 1 rfl ?_
    refine gj_bipush C dX5_test_22 rfl ?_
    refine mj_callVI (As := [.int (iI 61)]) (rest := []) C K dX5_test_24 (met5_hasSign (cx_l X) g 61) (lw_V q2114 q2116 qs83 q134 q2117) hy5_hasSign hR (by omega) (by decide) rfl rfl (Nat.zero_le _) (fun v24 => ?_)
    refine gj_if_eq (tgt := 51) C dX5_test_27 (by decide) (fun h27 => gj_pos h27 ?_) (fun h27 => gj_neg h27 ?_)
    · exact mj_vret C hQ hr dX5_test_51
    · exact gj_to [1, 2, 0] (J30 a1 v8) rfl
def m5_all_j23 (tp : Int → MM Unit) (a1 : Int) (bk5 : Unit → MM Unit) : MM Unit :=
  pbnd (m5_isWord 20) fun v26 =>
  pbnd (mget 7) fun v32 =>
  pbnd (mput 7 (w32 (v32 + 1))) fun _ =>
  pbnd (m5_test tp a1) fun _ =>
  plet (if w32 v26 = 0 then 10 else 9) fun d57 =>
  pbnd (m5_emit d57 0) fun _ =>
  bk5 ()
def m5_all_b5 (tp : Int → MM Unit) (a1 : Int) (bk5 : Unit → MM Unit) : MM Unit :=
  pbnd (m5_isWord 20) fun v8 =>
  pite (w32 v8 = 0) (
    pbnd (m5_isWord 21) fun v17 =>
    pite (w32 v17 = 0) (
      pret ()) (
      m5_all_j23 tp a1 bk5)) (
    m5_all_j23 tp a1 bk5)
def m5_all_l5 (tp : Int → MM Unit) (a1 : Int) : MM Unit :=
  ploop (fun (s : Unit) bk5 => m5_all_b5 tp a1 bk5) ()
def m5_all (tp : Int → MM Unit) (a1 : Int) : MM Unit :=
  pbnd (m5_test tp a1) fun _ =>
  m5_all_l5 tp a1
set_option maxHeartbeats 4000000 in
set_option maxRecDepth 100000 in
theorem met5_all (l : Launch) (g : MG) {kT : Nat} (hkT : 10 ≤ kT) {tp : Int → MM Unit} (hTP : ∀ a1 : Int, MMet l g yX5_takePart cX5_takePart 4 (Option.none : Option Jvm.ClassFile.FieldType) (kT) [.ref g.2.2, .int (iI a1)] (tp a1) rvV) (a1 : Int) : MMet l g yX5_all cX5_all 3 (Option.none : Option Jvm.ClassFile.FieldType) (kT + 4) [.ref (g.2.2), .int (iI a1)] (m5_all tp a1) rvV := by
  refine mj_start (by decide +kernel) rfl (Nat.le_of_ble_eq_true rfl) (fun X Q hl C K hQ hR hr => ?_)
  subst hl
  show GJ X 3 (mWo g (cx_s X).heap) Q (m5_all tp a1) 0 [(0, .ref (g.2.2)), (1, .int (iI a1))] []
  have J5 : ∀ (a1 : Int), GJ X 3 (mWo g (cx_s X).heap) Q (m5_all_l5 tp a1) 5 [(0, .ref (g.2.2)), (1, .int (iI a1))] [] := by
    intro a1
    unfold m5_all_l5
    refine gj_loop (fun (s : Unit) => [(0, .ref (g.2.2)), (1, .int (iI a1))]) () (fun bk5 hb5 s => ?_)
    show GJ X 3 (mWo g (cx_s X).heap) Q (m5_all_b5 tp a1 bk5) 5 [(0, .ref (g.2.2)), (1, .int (iI a1))] []
    have J23 : GJ X 3 (mWo g (cx_s X).heap) Q (m5_all_j23 tp a1 bk5) 23 [(0, .ref (g.2.2)), (1, .int (iI a1))] [] := by
      unfold m5_all_j23
      refine gj_aload_n C dX5_all_23 0 rfl ?_
      refine gj_bipush C dX5_all_24 rfl ?_
      refine mj_callVI (As := [.int (iI 20)]) (rest := []) C K dX5_all_26 (met5_isWord (cx_l X) g 20) (lw_V q2026 q2028 qs61 q134 q2029) hy5_isWord hR (by omega) (by decide) rfl rfl (Nat.zero_le _) (fun v26 => ?_)
      refine gj_istore_n (L' := [(2, _), (0, _), (1, _)]) C dX5_all_29 (by decide) rfl ?_
      refine gj_aload_n C dX5_all_30 1 rfl ?_
      refine gj_dup C dX5_all_31 rfl ?_
      refine mj_getI (kf := 7) C K dX5_all_32 (by decide) (by decide) rfl q1878 rfl (fun v32 => ?_)
      refine gj_iconst C dX5_all_35 ?_
      refine gj_iadd C dX5_all_36 ?_
      refine gj_nrmI ?_
      refine mj_putI (kf := 7) C K dX5_all_37 (by decide) (by decide) rfl q1878 rfl rfl (by decide +kernel) ?_
      refine gj_aload_n C dX5_all_40 1 rfl ?_
      refine gj_iload_n C dX5_all_41 2 rfl ?_
      refine mj_callVV (As := [.int (iI a1)]) (rest := []) C K dX5_all_42 (met5_test (cx_l X) g hkT hTP a1) (lw_V q2090 q2092 qs77 q134 q2093) hy5_test hR (by omega) (by decide) rfl rfl (Nat.zero_le _) ?_
      refine gj_aload_n C dX5_all_45 1 rfl ?_
      refine gj_iload_n C dX5_all_46 0 rfl ?_
      refine gj_dia (J := 57) (L := [(2, .int (iI v26)), (0, .ref (g.2.2)), (1, .int (iI a1))]) (st := [.ref (g.2.2)]) (fun d57 => ?_) (fun t hJ => ?_)
      · skip
        refine gj_iconst C dX5_all_57 ?_
        refine mj_callVV (As := [.int (iI d57), .int (iI 0)]) (rest := []) C K dX5_all_58 (met5_emit (cx_l X) g d57 0) (lw_V q2110 q2112 qs82 q134 q2113) hy5_emit hR (by omega) (by decide) rfl rfl (Nat.zero_le _) ?_
        refine gj_goto (tgt := 5) C dX5_all_61 (by decide) ?_
        exact gj_to [1, 2] (hb5 ()) rfl
      · refine gj_if_eq (tgt := 55) C dX5_all_47 (by decide) (fun h47 => ?_) (fun h47 => ?_)
        · refine gj_bipush C dX5_all_55 rfl ?_
          exact (by rw [if_pos h47] at hJ; exact hJ)
        · refine gj_bipush C dX5_all_50 rfl ?_
          refine gj_goto (tgt := 57) C dX5_all_52 (by decide) ?_
          exact (by rw [if_neg h47] at hJ; exact hJ)
    unfold m5_all_b5
    refine gj_aload_n C dX5_all_5 0 rfl ?_
    refine gj_bipush C dX5_all_6 rfl ?_
    refine mj_callVI (As := [.int (iI 20)]) (rest := []) C K dX5_all_8 (met5_isWord (cx_l X) g 20) (lw_V q2026 q2028 qs61 q134 q2029) hy5_isWord hR (by omega) (by decide) rfl rfl (Nat.zero_le _) (fun v8 => ?_)
    refine gj_if_ne (tgt := 23) C dX5_all_11 (by decide) (fun h11 => gj_neg h11 ?_) (fun h11 => gj_pos h11 ?_)
    · exact gj_to [0, 1] (J23) rfl
    · refine gj_aload_n C dX5_all_14 0 rfl ?_
      refine gj_bipush C dX5_all_15 rfl ?_
      refine mj_callVI (As := [.int (iI 21)]) (rest := []) C K dX5_all_17 (met5_isWord (cx_l X) g 21) (lw_V q2026 q2028 qs61 q134 q2029) hy5_isWord hR (by omega) (by decide) rfl rfl (Nat.zero_le _) (fun v17 => ?_)
      refine gj_if_eq (tgt := 64) C dX5_all_20 (by decide) (fun h20 => gj_pos h20 ?_) (fun h20 => gj_neg h20 ?_)
      · exact mj_vret C hQ hr dX5_all_64
      · exact gj_to [0, 1] (J23) rfl
  unfold m5_all
  refine gj_aload_n C dX5_all_0 0 rfl ?_
  refine gj_iload_n C dX5_all_1 1 rfl ?_
  refine mj_callVV (As := [.int (iI a1)]) (rest := []) C K dX5_all_2 (met5_test (cx_l X) g hkT hTP a1) (lw_V q2090 q2092 qs77 q134 q2093) hy5_test hR (by omega) (by decide) rfl rfl (Nat.zero_le _) ?_
  exact gj_to [0, 1] (J5 a1) rfl
def m5_takePart_s_j187 (tp : Int → MM Unit) (s1 s2 : Int) : MM Unit :=
  pbnd (m5_emit s1 s2) fun _ =>
  pbnd (mget 7) fun v192 =>
  pbnd (mput 7 (w32 (v192 + 1))) fun _ =>
  pret ()
def m5_takePart_s_j101 (tp : Int → MM Unit) (a1 a2 a3 : Int) : MM Unit :=
  pbnd (mget 8) fun v102 =>
  pite (0 < w32 v102) (
    pret ()) (
    pbnd (m5_hasWord 19) fun v112 =>
    pite (w32 v112 = 0) (
      pbnd (m5_hasSign 40) fun v137 =>
      pite (w32 v137 = 0) (
        plet (if w32 a2 = 0 then 2 else 1) fun d169 =>
        pite (w32 a2 = 0) (
          m5_takePart_s_j187 tp d169 a3) (
          pbnd (mget 7) fun v178 =>
          pbnd (mrd 4 1002 v178) fun v181 =>
          m5_takePart_s_j187 tp d169 (zl2i v181))) (
        pbnd (m5_all tp (a1 + 1)) fun _ =>
        pbnd (m5_takeSign 41) fun _ =>
        pret ())) (
      pbnd (tp (a1 + 1)) fun _ =>
      pbnd (m5_emit 3 0) fun _ =>
      pret ()))
def m5_takePart_s_j91 (tp : Int → MM Unit) (a1 a2 a3 : Int) : MM Unit :=
  pite (w32 a1 = 5) (
    pbnd (m5_wrong 5) fun _ =>
    m5_takePart_s_j101 tp a1 a2 a3) (
    m5_takePart_s_j101 tp a1 a2 a3)
def m5_takePart_s_j56 (tp : Int → MM Unit) (a1 a2 s0 : Int) : MM Unit :=
  pite (w32 s0 < 0) (
    pite (w32 a2 = 0) (
      pbnd (m5_isSign 40) fun v68 =>
      pite (w32 v68 = 0) (
        pbnd (m5_isWord 19) fun v77 =>
        pite (w32 v77 = 0) (
          pbnd (m5_wrong 1) fun _ =>
          m5_takePart_s_j101 tp a1 a2 s0) (
          m5_takePart_s_j91 tp a1 a2 s0)) (
        m5_takePart_s_j91 tp a1 a2 s0)) (
      m5_takePart_s_j91 tp a1 a2 s0)) (
    m5_takePart_s_j91 tp a1 a2 s0)
def m5_takePart_s_j55 (tp : Int → MM Unit) (a1 a2 : Int) : MM Unit :=
  m5_takePart_s_j56 tp a1 a2 (-1)
def m5_takePart_s (tp : Int → MM Unit) (a1 : Int) : MM Unit :=
  pbnd (mget 8) fun v1 =>
  pite (0 < w32 v1) (
    pret ()) (
    pbnd (mget 7) fun v13 =>
    pbnd (mrd 2 1002 v13) fun v16 =>
    plet (if w32 v16 = 2 then 1 else 0) fun d26 =>
    pbnd (m5_wordHere 22 5) fun v31 =>
    pite (w32 v31 < 0) (
      m5_takePart_s_j55 tp a1 d26) (
      pbnd (mget 19) fun v40 =>
      pite (w32 (zand (zshr v40 v31) 1) = 1) (
        m5_takePart_s_j56 tp a1 d26 v31) (
        m5_takePart_s_j55 tp a1 d26)))
set_option maxHeartbeats 4000000 in
set_option maxRecDepth 100000 in
theorem met5_takePart_s (l : Launch) (g : MG) {kT : Nat} (hkT : 10 ≤ kT) {tp : Int → MM Unit} (hTP : ∀ a1 : Int, MMet l g yX5_takePart cX5_takePart 4 (Option.none : Option Jvm.ClassFile.FieldType) (kT) [.ref g.2.2, .int (iI a1)] (tp a1) rvV) (a1 : Int) : MMet l g yX5_takePart cX5_takePart 4 (Option.none : Option Jvm.ClassFile.FieldType) (kT + 5) [.ref (g.2.2), .int (iI a1)] (m5_takePart_s tp a1) rvV := by
  refine mj_start (by decide +kernel) rfl (Nat.le_of_ble_eq_true rfl) (fun X Q hl C K hQ hR hr => ?_)
  subst hl
  show GJ X 4 (mWo g (cx_s X).heap) Q (m5_takePart_s tp a1) 0 [(0, .ref (g.2.2)), (1, .int (iI a1))] []
  have J187 : ∀ (s1 s2 : Int), GJ X 4 (mWo g (cx_s X).heap) Q (m5_takePart_s_j187 tp s1 s2) 187 [(0, .ref (g.2.2))] [.int (iI s2), .int (iI s1), .ref (g.2.2)] := by
    intro s1 s2
    unfold m5_takePart_s_j187
    refine mj_callVV (As := [.int (iI s1), .int (iI s2)]) (rest := []) C K dX5_takePart_187 (met5_emit (cx_l X) g s1 s2) (lw_V q2110 q2112 qs82 q134 q2113) hy5_emit hR (by omega) (by decide) rfl rfl (Nat.zero_le _) ?_
    refine gj_aload_n C dX5_takePart_190 0 rfl ?_
    refine gj_dup C dX5_takePart_191 rfl ?_
    refine mj_getI (kf := 7) C K dX5_takePart_192 (by decide) (by decide) rfl q1878 rfl (fun v192 => ?_)
    refine gj_iconst C dX5_takePart_195 ?_
    refine gj_iadd C dX5_takePart_196 ?_
    refine gj_nrmI ?_
    refine mj_putI (kf := 7) C K dX5_takePart_197 (by decide) (by decide) rfl q1878 rfl rfl (by decide +kernel) ?_
    exact mj_vret C hQ hr dX5_takePart_200
  have J101 : ∀ (a1 a2 a3 : Int), GJ X 4 (mWo g (cx_s X).heap) Q (m5_takePart_s_j101 tp a1 a2 a3) 101 [(0, .ref (g.2.2)), (1, .int (iI a1)), (2, .int (iI a2)), (3, .int (iI a3))] [] := by
    intro a1 a2 a3
    unfold m5_takePart_s_j101
    refine gj_aload_n C dX5_takePart_101 0 rfl ?_
    refine mj_getI (kf := 8) C K dX5_takePart_102 (by decide) (by decide) rfl q1879 rfl (fun v102 => ?_)
    refine gj_if_le (tgt := 109) C dX5_takePart_105 (by decide) (fun h105 => gj_neg h105 ?_) (fun h105 => gj_pos h105 ?_)
    · refine gj_aload_n C dX5_takePart_109 0 rfl ?_
      refine gj_bipush C dX5_takePart_110 rfl ?_
      refine mj_callVI (As := [.int (iI 19)]) (rest := []) C K dX5_takePart_112 (met5_hasWord (cx_l X) g 19) (lw_V q2062 q2064 qs70 q134 q2065) hy5_hasWord hR (by omega) (by decide) rfl rfl (Nat.zero_le _) (fun v112 => ?_)
      refine gj_if_eq (tgt := 134) C dX5_takePart_115 (by decide) (fun h115 => gj_pos h115 ?_) (fun h115 => gj_neg h115 ?_)
      · refine gj_aload_n C dX5_takePart_134 0 rfl ?_
        refine gj_bipush C dX5_takePart_135 rfl ?_
        refine mj_callVI (As := [.int (iI 40)]) (rest := []) C K dX5_takePart_137 (met5_hasSign (cx_l X) g 40) (lw_V q2114 q2116 qs83 q134 q2117) hy5_hasSign hR (by omega) (by decide) rfl rfl (Nat.zero_le _) (fun v137 => ?_)
        refine gj_if_eq (tgt := 159) C dX5_takePart_140 (by decide) (fun h140 => gj_pos h140 ?_) (fun h140 => gj_neg h140 ?_)
        · refine gj_aload_n C dX5_takePart_159 0 rfl ?_
          refine gj_iload_n C dX5_takePart_160 2 rfl ?_
          refine gj_dia (J := 169) (L := [(0, .ref (g.2.2)), (1, .int (iI a1)), (2, .int (iI a2)), (3, .int (iI a3))]) (st := [.ref (g.2.2)]) (fun d169 => ?_) (fun t hJ => ?_)
          · skip
            refine gj_iload_n C dX5_takePart_169 2 rfl ?_
            refine gj_if_eq (tgt := 186) C dX5_takePart_170 (by decide) (fun h170 => gj_pos h170 ?_) (fun h170 => gj_neg h170 ?_)
            · refine gj_iload_n C dX5_takePart_186 3 rfl ?_
              exact gj_to [0] (J187 d169 a3) rfl
            · refine gj_aload_n C dX5_takePart_173 0 rfl ?_
              refine mj_getR (kf := 6) (j := 4) C K dX5_takePart_174 (by decide) (by decide) rfl (by decide) q1877 rfl ?_
              refine gj_aload_n C dX5_takePart_177 0 rfl ?_
              refine mj_getI (kf := 7) C K dX5_takePart_178 (by decide) (by decide) rfl q1878 rfl (fun v178 => ?_)
              refine mj_lald (j := 4) C K dX5_takePart_181 (by decide) rfl (fun v181 => ?_)
              refine gj_l2i C dX5_takePart_182 ?_
              refine gj_goto (tgt := 187) C dX5_takePart_183 (by decide) ?_
              exact gj_to [0] (J187 d169 (zl2i v181)) rfl
          · refine gj_if_eq (tgt := 168) C dX5_takePart_161 (by decide) (fun h161 => ?_) (fun h161 => ?_)
            · refine gj_iconst C dX5_takePart_168 ?_
              exact (by rw [if_pos h161] at hJ; exact hJ)
            · refine gj_iconst C dX5_takePart_164 ?_
              refine gj_goto (tgt := 169) C dX5_takePart_165 (by decide) ?_
              exact (by rw [if_neg h161] at hJ; exact hJ)
        · refine gj_aload_n C dX5_takePart_143 0 rfl ?_
          refine gj_iload_n C dX5_takePart_144 1 rfl ?_
          refine gj_iconst C dX5_takePart_145 ?_
          refine gj_iadd C dX5_takePart_146 ?_
          refine mj_callVV (As := [.int (iI ((a1 + 1)))]) (rest := []) C K dX5_takePart_147 (met5_all (cx_l X) g hkT hTP (a1 + 1)) (lw_V q2086 q2088 qs76 q134 q2089) hy5_all hR (by omega) (by decide) rfl rfl (Nat.zero_le _) ?_
          refine gj_aload_n C dX5_takePart_150 0 rfl ?_
          refine gj_bipush C dX5_takePart_151 rfl ?_
          refine mj_callVV (As := [.int (iI 41)]) (rest := []) C K dX5_takePart_153 (met5_takeSign (cx_l X) g 41) (lw_V q2118 q2120 qs84 q134 q2121) hy5_takeSign hR (by omega) (by decide) rfl rfl (Nat.zero_le _) ?_
          refine gj_goto (tgt := 200) C dX5_takePart_156 (by decide) ?_
          exact mj_vret C hQ hr dX5_takePart_200
      · refine gj_aload_n C dX5_takePart_118 0 rfl ?_
        refine gj_iload_n C dX5_takePart_119 1 rfl ?_
        refine gj_iconst C dX5_takePart_120 ?_
        refine gj_iadd C dX5_takePart_121 ?_
        refine mj_callVV (As := [.int (iI ((a1 + 1)))]) (rest := []) C K dX5_takePart_122 (hTP (a1 + 1)) (lw_V q2102 q2104 qs80 q134 q2105) hy5_takePart hR (by omega) (by decide) rfl rfl (Nat.zero_le _) ?_
        refine gj_aload_n C dX5_takePart_125 0 rfl ?_
        refine gj_iconst C dX5_takePart_126 ?_
        refine gj_iconst C dX5_takePart_127 ?_
        refine mj_callVV (As := [.int (iI 3), .int (iI 0)]) (rest := []) C K dX5_takePart_128 (met5_emit (cx_l X) g 3 0) (lw_V q2110 q2112 qs82 q134 q2113) hy5_emit hR (by omega) (by decide) rfl rfl (Nat.zero_le _) ?_
        refine gj_goto (tgt := 200) C dX5_takePart_131 (by decide) ?_
        exact mj_vret C hQ hr dX5_takePart_200
    · exact mj_vret C hQ hr dX5_takePart_108
  have J91 : ∀ (a1 a2 a3 : Int), GJ X 4 (mWo g (cx_s X).heap) Q (m5_takePart_s_j91 tp a1 a2 a3) 91 [(0, .ref (g.2.2)), (1, .int (iI a1)), (2, .int (iI a2)), (3, .int (iI a3))] [] := by
    intro a1 a2 a3
    unfold m5_takePart_s_j91
    refine gj_iload_n C dX5_takePart_91 1 rfl ?_
    refine gj_iconst C dX5_takePart_92 ?_
    refine gj_icmp_ne (tgt := 101) (b' := 5) C dX5_takePart_93 (by decide) rfl (by decide) (fun h93 => gj_neg h93 ?_) (fun h93 => gj_pos h93 ?_)
    · exact gj_to [0, 1, 2, 3] (J101 a1 a2 a3) rfl
    · refine gj_aload_n C dX5_takePart_96 0 rfl ?_
      refine gj_iconst C dX5_takePart_97 ?_
      refine mj_callVV (As := [.int (iI 5)]) (rest := []) C K dX5_takePart_98 (met5_wrong (cx_l X) g 5) (lw_V q2034 q2036 qs63 q134 q2037) hy5_wrong hR (by omega) (by decide) rfl rfl (Nat.zero_le _) ?_
      exact gj_to [0, 1, 2, 3] (J101 a1 a2 a3) rfl
  have J56 : ∀ (a1 a2 s0 : Int), GJ X 4 (mWo g (cx_s X).heap) Q (m5_takePart_s_j56 tp a1 a2 s0) 56 [(0, .ref (g.2.2)), (1, .int (iI a1)), (2, .int (iI a2))] [.int (iI s0)] := by
    intro a1 a2 s0
    unfold m5_takePart_s_j56
    refine gj_istore_n (L' := [(3, _), (0, _), (1, _), (2, _)]) C dX5_takePart_56 (by decide) rfl ?_
    refine gj_iload_n C dX5_takePart_57 0 rfl ?_
    refine gj_if_ge (tgt := 91) C dX5_takePart_58 (by decide) (fun h58 => gj_neg h58 ?_) (fun h58 => gj_pos h58 ?_)
    · exact gj_to [1, 2, 3, 0] (J91 a1 a2 s0) rfl
    · refine gj_iload_n C dX5_takePart_61 3 rfl ?_
      refine gj_if_ne (tgt := 91) C dX5_takePart_62 (by decide) (fun h62 => gj_neg h62 ?_) (fun h62 => gj_pos h62 ?_)
      · exact gj_to [1, 2, 3, 0] (J91 a1 a2 s0) rfl
      · refine gj_aload_n C dX5_takePart_65 1 rfl ?_
        refine gj_bipush C dX5_takePart_66 rfl ?_
        refine mj_callVI (As := [.int (iI 40)]) (rest := []) C K dX5_takePart_68 (met5_isSign (cx_l X) g 40) (lw_V q2106 q2108 qs81 q134 q2109) hy5_isSign hR (by omega) (by decide) rfl rfl (Nat.zero_le _) (fun v68 => ?_)
        refine gj_if_ne (tgt := 91) C dX5_takePart_71 (by decide) (fun h71 => gj_neg h71 ?_) (fun h71 => gj_pos h71 ?_)
        · exact gj_to [1, 2, 3, 0] (J91 a1 a2 s0) rfl
        · refine gj_aload_n C dX5_takePart_74 1 rfl ?_
          refine gj_bipush C dX5_takePart_75 rfl ?_
          refine mj_callVI (As := [.int (iI 19)]) (rest := []) C K dX5_takePart_77 (met5_isWord (cx_l X) g 19) (lw_V q2026 q2028 qs61 q134 q2029) hy5_isWord hR (by omega) (by decide) rfl rfl (Nat.zero_le _) (fun v77 => ?_)
          refine gj_if_ne (tgt := 91) C dX5_takePart_80 (by decide) (fun h80 => gj_neg h80 ?_) (fun h80 => gj_pos h80 ?_)
          · exact gj_to [1, 2, 3, 0] (J91 a1 a2 s0) rfl
          · refine gj_aload_n C dX5_takePart_83 1 rfl ?_
            refine gj_iconst C dX5_takePart_84 ?_
            refine mj_callVV (As := [.int (iI 1)]) (rest := []) C K dX5_takePart_85 (met5_wrong (cx_l X) g 1) (lw_V q2034 q2036 qs63 q134 q2037) hy5_wrong hR (by omega) (by decide) rfl rfl (Nat.zero_le _) ?_
            refine gj_goto (tgt := 101) C dX5_takePart_88 (by decide) ?_
            exact gj_to [1, 2, 3, 0] (J101 a1 a2 s0) rfl
  have J55 : ∀ (a1 a2 : Int), GJ X 4 (mWo g (cx_s X).heap) Q (m5_takePart_s_j55 tp a1 a2) 55 [(0, .ref (g.2.2)), (1, .int (iI a1)), (2, .int (iI a2))] [] := by
    intro a1 a2
    unfold m5_takePart_s_j55
    refine gj_iconst C dX5_takePart_55 ?_
    exact gj_to [0, 1, 2] (J56 a1 a2 (-1)) rfl
  unfold m5_takePart_s
  refine gj_aload_n C dX5_takePart_0 0 rfl ?_
  refine mj_getI (kf := 8) C K dX5_takePart_1 (by decide) (by decide) rfl q1879 rfl (fun v1 => ?_)
  refine gj_if_le (tgt := 8) C dX5_takePart_4 (by decide) (fun h4 => gj_neg h4 ?_) (fun h4 => gj_pos h4 ?_)
  · refine gj_aload_n C dX5_takePart_8 0 rfl ?_
    refine mj_getR (kf := 4) (j := 2) C K dX5_takePart_9 (by decide) (by decide) rfl (by decide) q1875 rfl ?_
    refine gj_aload_n C dX5_takePart_12 0 rfl ?_
    refine mj_getI (kf := 7) C K dX5_takePart_13 (by decide) (by decide) rfl q1878 rfl (fun v13 => ?_)
    refine mj_iald (j := 2) C K dX5_takePart_16 (by decide) rfl (fun v16 => ?_)
    refine gj_iconst C dX5_takePart_17 ?_
    refine gj_dia (J := 26) (L := [(0, .ref (g.2.2)), (1, .int (iI a1))]) (st := []) (fun d26 => ?_) (fun t hJ => ?_)
    · skip
      refine gj_istore_n (L' := [(2, _), (0, _), (1, _)]) C dX5_takePart_26 (by decide) rfl ?_
      refine gj_aload_n C dX5_takePart_27 1 rfl ?_
      refine gj_bipush C dX5_takePart_28 rfl ?_
      refine gj_iconst C dX5_takePart_30 ?_
      refine mj_callVI (As := [.int (iI 22), .int (iI 5)]) (rest := []) C K dX5_takePart_31 (met5_wordHere (cx_l X) g 22 5) (lw_V q2042 q2044 qs65 q134 q2045) hy5_wordHere hR (by omega) (by decide) rfl rfl (Nat.zero_le _) (fun v31 => ?_)
      refine gj_istore_n (L' := [(3, _), (2, _), (0, _), (1, _)]) C dX5_takePart_34 (by decide) rfl ?_
      refine gj_iload_n C dX5_takePart_35 0 rfl ?_
      refine gj_if_lt (tgt := 55) C dX5_takePart_36 (by decide) (fun h36 => gj_pos h36 ?_) (fun h36 => gj_neg h36 ?_)
      · exact gj_to [2, 3, 1] (J55 a1 d26) rfl
      · refine gj_aload_n C dX5_takePart_39 2 rfl ?_
        refine mj_getI (kf := 19) C K dX5_takePart_40 (by decide) (by decide) rfl q1890 rfl (fun v40 => ?_)
        refine gj_iload_n C dX5_takePart_43 0 rfl ?_
        refine gj_ishr C dX5_takePart_44 ?_
        refine gj_iconst C dX5_takePart_45 ?_
        refine gj_iand C dX5_takePart_46 ?_
        refine gj_iconst C dX5_takePart_47 ?_
        refine gj_icmp_ne (tgt := 55) (b' := 1) C dX5_takePart_48 (by decide) rfl (by decide) (fun h48 => gj_neg h48 ?_) (fun h48 => gj_pos h48 ?_)
        · exact gj_to [2, 3, 1] (J55 a1 d26) rfl
        · refine gj_iload_n C dX5_takePart_51 0 rfl ?_
          refine gj_goto (tgt := 56) C dX5_takePart_52 (by decide) ?_
          exact gj_to [2, 3, 1] (J56 a1 d26 v31) rfl
    · refine gj_icmp_ne (tgt := 25) (b' := 2) C dX5_takePart_18 (by decide) rfl (by decide) (fun h18 => ?_) (fun h18 => ?_)
      · refine gj_iconst C dX5_takePart_25 ?_
        exact (by rw [if_neg h18] at hJ; exact hJ)
      · refine gj_iconst C dX5_takePart_21 ?_
        refine gj_goto (tgt := 26) C dX5_takePart_22 (by decide) ?_
        exact (by rw [if_pos h18] at hJ; exact hJ)
  · exact mj_vret C hQ hr dX5_takePart_7
def m5_takePart : Nat → Int → MM Unit
  | 0, _ => pfail
  | n + 1, a1 => m5_takePart_s (m5_takePart n) a1
theorem met5_takePart (l : Launch) (g : MG) : ∀ (n : Nat) (a1 : Int), MMet l g yX5_takePart cX5_takePart 4 (Option.none : Option Jvm.ClassFile.FieldType) (10 + 5 * n) [.ref g.2.2, .int (iI a1)] (m5_takePart n a1) rvV := by
  intro n
  induction n with
  | zero => intro a1 Q σ h; exact h.elim
  | succ n ih => intro a1; exact met5_takePart_s l g (by omega) ih a1
def m5_takeNumber_j70 : MM Int :=
  pbnd (mget 8) fun v71 =>
  pite (0 < w32 v71) (
    pret 0) (
    pbnd (mget 7) fun v81 =>
    pbnd (mput 7 (w32 (v81 + 1))) fun _ =>
    pbnd (mget 7) fun v94 =>
    pbnd (mrd 4 1002 (v94 - 1)) fun v99 =>
    pret (zl2i v99))
def m5_takeNumber_j65 : MM Int :=
  pbnd (m5_wrong 4) fun _ =>
  m5_takeNumber_j70
def m5_takeNumber_j28 (a1 a2 : Int) : MM Int :=
  pbnd (mget 8) fun v29 =>
  pite (w32 v29 = 0) (
    pbnd (mget 7) fun v40 =>
    pbnd (mrd 4 1002 v40) fun v43 =>
    pite (w32 (lcmp' v43 (zi2l a1)) < 0) (
      m5_takeNumber_j65) (
      pbnd (mget 7) fun v55 =>
      pbnd (mrd 4 1002 v55) fun v58 =>
      pite (0 < w32 (lcmp' v58 (zi2l a2))) (
        m5_takeNumber_j65) (
        m5_takeNumber_j70))) (
    m5_takeNumber_j70)
def m5_takeNumber (a1 a2 : Int) : MM Int :=
  pbnd (mget 8) fun v1 =>
  pite (w32 v1 = 0) (
    pbnd (mget 7) fun v12 =>
    pbnd (mrd 2 1002 v12) fun v15 =>
    pite (w32 v15 = 2) (
      m5_takeNumber_j28 a1 a2) (
      pbnd (m5_wrong 1) fun _ =>
      m5_takeNumber_j70)) (
    m5_takeNumber_j28 a1 a2)
set_option maxHeartbeats 4000000 in
set_option maxRecDepth 100000 in
theorem met5_takeNumber (l : Launch) (g : MG) (a1 a2 : Int) : MMet l g yX5_takeNumber cX5_takeNumber 3 (Option.some Jvm.ClassFile.FieldType.int) (1) [.ref (g.2.2), .int (iI a1), .int (iI a2)] (m5_takeNumber a1 a2) rvI := by
  refine mj_start (by decide +kernel) rfl (Nat.le_of_ble_eq_true rfl) (fun X Q hl C K hQ hR hr => ?_)
  subst hl
  show GJ X 3 (mWo g (cx_s X).heap) Q (m5_takeNumber a1 a2) 0 [(0, .ref (g.2.2)), (1, .int (iI a1)), (2, .int (iI a2))] []
  have J70 : GJ X 3 (mWo g (cx_s X).heap) Q (m5_takeNumber_j70) 70 [(0, .ref (g.2.2))] [] := by
    unfold m5_takeNumber_j70
    refine gj_aload_n C dX5_takeNumber_70 0 rfl ?_
    refine mj_getI (kf := 8) C K dX5_takeNumber_71 (by decide) (by decide) rfl q1879 rfl (fun v71 => ?_)
    refine gj_if_le (tgt := 79) C dX5_takeNumber_74 (by decide) (fun h74 => gj_neg h74 ?_) (fun h74 => gj_pos h74 ?_)
    · refine gj_aload_n C dX5_takeNumber_79 0 rfl ?_
      refine gj_dup C dX5_takeNumber_80 rfl ?_
      refine mj_getI (kf := 7) C K dX5_takeNumber_81 (by decide) (by decide) rfl q1878 rfl (fun v81 => ?_)
      refine gj_iconst C dX5_takeNumber_84 ?_
      refine gj_iadd C dX5_takeNumber_85 ?_
      refine gj_nrmI ?_
      refine mj_putI (kf := 7) C K dX5_takeNumber_86 (by decide) (by decide) rfl q1878 rfl rfl (by decide +kernel) ?_
      refine gj_aload_n C dX5_takeNumber_89 0 rfl ?_
      refine mj_getR (kf := 6) (j := 4) C K dX5_takeNumber_90 (by decide) (by decide) rfl (by decide) q1877 rfl ?_
      refine gj_aload_n C dX5_takeNumber_93 0 rfl ?_
      refine mj_getI (kf := 7) C K dX5_takeNumber_94 (by decide) (by decide) rfl q1878 rfl (fun v94 => ?_)
      refine gj_iconst C dX5_takeNumber_97 ?_
      refine gj_isub C dX5_takeNumber_98 ?_
      refine mj_lald (j := 4) C K dX5_takeNumber_99 (by decide) rfl (fun v99 => ?_)
      refine gj_l2i C dX5_takeNumber_100 ?_
      exact mj_iret C hQ hr dX5_takeNumber_101
    · refine gj_iconst C dX5_takeNumber_77 ?_
      exact mj_iret C hQ hr dX5_takeNumber_78
  have J65 : GJ X 3 (mWo g (cx_s X).heap) Q (m5_takeNumber_j65) 65 [(0, .ref (g.2.2))] [] := by
    unfold m5_takeNumber_j65
    refine gj_aload_n C dX5_takeNumber_65 0 rfl ?_
    refine gj_iconst C dX5_takeNumber_66 ?_
    refine mj_callVV (As := [.int (iI 4)]) (rest := []) C K dX5_takeNumber_67 (met5_wrong (cx_l X) g 4) (lw_V q2034 q2036 qs63 q134 q2037) hy5_wrong hR (Nat.le_of_ble_eq_true rfl) (by decide) rfl rfl (Nat.zero_le _) ?_
    exact gj_to [0] (J70) rfl
  have J28 : ∀ (a1 a2 : Int), GJ X 3 (mWo g (cx_s X).heap) Q (m5_takeNumber_j28 a1 a2) 28 [(0, .ref (g.2.2)), (1, .int (iI a1)), (2, .int (iI a2))] [] := by
    intro a1 a2
    unfold m5_takeNumber_j28
    refine gj_aload_n C dX5_takeNumber_28 0 rfl ?_
    refine mj_getI (kf := 8) C K dX5_takeNumber_29 (by decide) (by decide) rfl q1879 rfl (fun v29 => ?_)
    refine gj_if_ne (tgt := 70) C dX5_takeNumber_32 (by decide) (fun h32 => gj_neg h32 ?_) (fun h32 => gj_pos h32 ?_)
    · exact gj_to [0] (J70) rfl
    · refine gj_aload_n C dX5_takeNumber_35 0 rfl ?_
      refine mj_getR (kf := 6) (j := 4) C K dX5_takeNumber_36 (by decide) (by decide) rfl (by decide) q1877 rfl ?_
      refine gj_aload_n C dX5_takeNumber_39 0 rfl ?_
      refine mj_getI (kf := 7) C K dX5_takeNumber_40 (by decide) (by decide) rfl q1878 rfl (fun v40 => ?_)
      refine mj_lald (j := 4) C K dX5_takeNumber_43 (by decide) rfl (fun v43 => ?_)
      refine gj_iload_n C dX5_takeNumber_44 1 rfl ?_
      refine gj_i2l C dX5_takeNumber_45 ?_
      refine gj_lcmp C dX5_takeNumber_46 ?_
      refine gj_if_lt (tgt := 65) C dX5_takeNumber_47 (by decide) (fun h47 => gj_pos h47 ?_) (fun h47 => gj_neg h47 ?_)
      · exact gj_to [0] (J65) rfl
      · refine gj_aload_n C dX5_takeNumber_50 0 rfl ?_
        refine mj_getR (kf := 6) (j := 4) C K dX5_takeNumber_51 (by decide) (by decide) rfl (by decide) q1877 rfl ?_
        refine gj_aload_n C dX5_takeNumber_54 0 rfl ?_
        refine mj_getI (kf := 7) C K dX5_takeNumber_55 (by decide) (by decide) rfl q1878 rfl (fun v55 => ?_)
        refine mj_lald (j := 4) C K dX5_takeNumber_58 (by decide) rfl (fun v58 => ?_)
        refine gj_iload_n C dX5_takeNumber_59 2 rfl ?_
        refine gj_i2l C dX5_takeNumber_60 ?_
        refine gj_lcmp C dX5_takeNumber_61 ?_
        refine gj_if_le (tgt := 70) C dX5_takeNumber_62 (by decide) (fun h62 => gj_neg h62 ?_) (fun h62 => gj_pos h62 ?_)
        · exact gj_to [0] (J70) rfl
        · exact gj_to [0] (J65) rfl
  unfold m5_takeNumber
  refine gj_aload_n C dX5_takeNumber_0 0 rfl ?_
  refine mj_getI (kf := 8) C K dX5_takeNumber_1 (by decide) (by decide) rfl q1879 rfl (fun v1 => ?_)
  refine gj_if_ne (tgt := 28) C dX5_takeNumber_4 (by decide) (fun h4 => gj_neg h4 ?_) (fun h4 => gj_pos h4 ?_)
  · exact gj_to [0, 1, 2] (J28 a1 a2) rfl
  · refine gj_aload_n C dX5_takeNumber_7 0 rfl ?_
    refine mj_getR (kf := 4) (j := 2) C K dX5_takeNumber_8 (by decide) (by decide) rfl (by decide) q1875 rfl ?_
    refine gj_aload_n C dX5_takeNumber_11 0 rfl ?_
    refine mj_getI (kf := 7) C K dX5_takeNumber_12 (by decide) (by decide) rfl q1878 rfl (fun v12 => ?_)
    refine mj_iald (j := 2) C K dX5_takeNumber_15 (by decide) rfl (fun v15 => ?_)
    refine gj_iconst C dX5_takeNumber_16 ?_
    refine gj_icmp_eq (tgt := 28) (b' := 2) C dX5_takeNumber_17 (by decide) rfl (by decide) (fun h17 => gj_pos h17 ?_) (fun h17 => gj_neg h17 ?_)
    · exact gj_to [0, 1, 2] (J28 a1 a2) rfl
    · refine gj_aload_n C dX5_takeNumber_20 0 rfl ?_
      refine gj_iconst C dX5_takeNumber_21 ?_
      refine mj_callVV (As := [.int (iI 1)]) (rest := []) C K dX5_takeNumber_22 (met5_wrong (cx_l X) g 1) (lw_V q2034 q2036 qs63 q134 q2037) hy5_wrong hR (Nat.le_of_ble_eq_true rfl) (by decide) rfl rfl (Nat.zero_le _) ?_
      refine gj_goto (tgt := 70) C dX5_takeNumber_25 (by decide) ?_
      exact gj_to [0] (J70) rfl
def m5_readOnce_j65 (a1 : Int) : MM Unit :=
  pbnd (mget 8) fun v66 =>
  pite (0 < w32 v66) (
    pret ()) (
    pbnd (mget 7) fun v75 =>
    pbnd (mput 7 (w32 (v75 + 1))) fun _ =>
    pite (w32 a1 = 4) (
      pbnd (mputz 18 1) fun _ =>
      pbnd (m5_takeNumber 0 999) fun v104 =>
      pbnd (mwr 6 160 82 v104) fun _ =>
      pret ()) (
      pbnd (mget 13) fun v120 =>
      pbnd (mwr 6 160 (83 + a1) v120) fun _ =>
      plet (if w32 a1 = 2 then 7 else 31) fun d137 =>
      pbnd (mput 19 (w32 d137)) fun _ =>
      pbnd (m5_all (m5_takePart 10) 0) fun _ =>
      pbnd (m5_emit 0 0) fun _ =>
      pret ()))
def m5_readOnce_j60 (a1 : Int) : MM Unit :=
  pbnd (m5_wrong 3) fun _ =>
  m5_readOnce_j65 a1
def m5_readOnce_j20 (s0 : Int) : MM Unit :=
  pite (w32 s0 < 0) (
    pbnd (m5_wrong 1) fun _ =>
    m5_readOnce_j65 s0) (
    pite (w32 s0 = 4) (
      pbnd (mget 18) fun v39 =>
      pite (w32 v39 = 0) (
        m5_readOnce_j65 s0) (
        m5_readOnce_j60 s0)) (
      pbnd (mrd 6 160 (83 + s0)) fun v56 =>
      pite (w32 v56 < 0) (
        m5_readOnce_j65 s0) (
        m5_readOnce_j60 s0)))
def m5_readOnce : MM Unit :=
  pbnd (m5_isWord 6) fun v3 =>
  pite (w32 v3 = 0) (
    pbnd (m5_wordHere 7 4) fun v17 =>
    m5_readOnce_j20 v17) (
    m5_readOnce_j20 4)
set_option maxHeartbeats 4000000 in
set_option maxRecDepth 100000 in
theorem met5_readOnce (l : Launch) (g : MG) : MMet l g yX5_readOnce cX5_readOnce 2 (Option.none : Option Jvm.ClassFile.FieldType) (65) [.ref (g.2.2)] (m5_readOnce) rvV := by
  refine mj_start (by decide +kernel) rfl (Nat.le_of_ble_eq_true rfl) (fun X Q hl C K hQ hR hr => ?_)
  subst hl
  show GJ X 2 (mWo g (cx_s X).heap) Q (m5_readOnce) 0 [(0, .ref (g.2.2))] []
  have J65 : ∀ (a1 : Int), GJ X 2 (mWo g (cx_s X).heap) Q (m5_readOnce_j65 a1) 65 [(0, .ref (g.2.2)), (1, .int (iI a1))] [] := by
    intro a1
    unfold m5_readOnce_j65
    refine gj_aload_n C dX5_readOnce_65 0 rfl ?_
    refine mj_getI (kf := 8) C K dX5_readOnce_66 (by decide) (by decide) rfl q1879 rfl (fun v66 => ?_)
    refine gj_if_le (tgt := 73) C dX5_readOnce_69 (by decide) (fun h69 => gj_neg h69 ?_) (fun h69 => gj_pos h69 ?_)
    · refine gj_aload_n C dX5_readOnce_73 0 rfl ?_
      refine gj_dup C dX5_readOnce_74 rfl ?_
      refine mj_getI (kf := 7) C K dX5_readOnce_75 (by decide) (by decide) rfl q1878 rfl (fun v75 => ?_)
      refine gj_iconst C dX5_readOnce_78 ?_
      refine gj_iadd C dX5_readOnce_79 ?_
      refine gj_nrmI ?_
      refine mj_putI (kf := 7) C K dX5_readOnce_80 (by decide) (by decide) rfl q1878 rfl rfl (by decide +kernel) ?_
      refine gj_iload_n C dX5_readOnce_83 1 rfl ?_
      refine gj_iconst C dX5_readOnce_84 ?_
      refine gj_icmp_ne (tgt := 111) (b' := 4) C dX5_readOnce_85 (by decide) rfl (by decide) (fun h85 => gj_neg h85 ?_) (fun h85 => gj_pos h85 ?_)
      · refine gj_aload_n C dX5_readOnce_111 0 rfl ?_
        refine mj_getR (kf := 10) (j := 6) C K dX5_readOnce_112 (by decide) (by decide) rfl (by decide) q1881 rfl ?_
        refine gj_bipush C dX5_readOnce_115 rfl ?_
        refine gj_iload_n C dX5_readOnce_117 1 rfl ?_
        refine gj_iadd C dX5_readOnce_118 ?_
        refine gj_aload_n C dX5_readOnce_119 0 rfl ?_
        refine mj_getI (kf := 13) C K dX5_readOnce_120 (by decide) (by decide) rfl q1884 rfl (fun v120 => ?_)
        refine mj_iast (j := 6) C K dX5_readOnce_123 (by decide) (by decide) rfl ?_
        refine gj_aload_n C dX5_readOnce_124 0 rfl ?_
        refine gj_iload_n C dX5_readOnce_125 1 rfl ?_
        refine gj_iconst C dX5_readOnce_126 ?_
        refine gj_dia (J := 137) (L := [(0, .ref (g.2.2)), (1, .int (iI a1))]) (st := [.ref (g.2.2)]) (fun d137 => ?_) (fun t hJ => ?_)
        · skip
          refine gj_nrmI ?_
          refine mj_putI (kf := 19) C K dX5_readOnce_137 (by decide) (by decide) rfl q1890 rfl rfl (by decide +kernel) ?_
          refine gj_aload_n C dX5_readOnce_140 0 rfl ?_
          refine gj_iconst C dX5_readOnce_141 ?_
          refine mj_callVV (As := [.int (iI 0)]) (rest := []) C K dX5_readOnce_142 (met5_all (cx_l X) g (by omega) (met5_takePart (cx_l X) g 10) 0) (lw_V q2086 q2088 qs76 q134 q2089) hy5_all hR (Nat.le_of_ble_eq_true rfl) (by decide) rfl rfl (Nat.zero_le _) ?_
          refine gj_aload_n C dX5_readOnce_145 0 rfl ?_
          refine gj_iconst C dX5_readOnce_146 ?_
          refine gj_iconst C dX5_readOnce_147 ?_
          refine mj_callVV (As := [.int (iI 0), .int (iI 0)]) (rest := []) C K dX5_readOnce_148 (met5_emit (cx_l X) g 0 0) (lw_V q2110 q2112 qs82 q134 q2113) hy5_emit hR (Nat.le_of_ble_eq_true rfl) (by decide) rfl rfl (Nat.zero_le _) ?_
          exact mj_vret C hQ hr dX5_readOnce_151
        · refine gj_icmp_ne (tgt := 135) (b' := 2) C dX5_readOnce_127 (by decide) rfl (by decide) (fun h127 => ?_) (fun h127 => ?_)
          · refine gj_bipush C dX5_readOnce_135 rfl ?_
            exact (by rw [if_neg h127] at hJ; exact hJ)
          · refine gj_bipush C dX5_readOnce_130 rfl ?_
            refine gj_goto (tgt := 137) C dX5_readOnce_132 (by decide) ?_
            exact (by rw [if_pos h127] at hJ; exact hJ)
      · refine gj_aload_n C dX5_readOnce_88 0 rfl ?_
        refine gj_iconst C dX5_readOnce_89 ?_
        refine mj_putZ (kf := 18) C K dX5_readOnce_90 (by decide) (by decide) rfl q1889 rfl rfl (by decide +kernel) ?_
        refine gj_aload_n C dX5_readOnce_93 0 rfl ?_
        refine mj_getR (kf := 10) (j := 6) C K dX5_readOnce_94 (by decide) (by decide) rfl (by decide) q1881 rfl ?_
        refine gj_bipush C dX5_readOnce_97 rfl ?_
        refine gj_aload_n C dX5_readOnce_99 0 rfl ?_
        refine gj_iconst C dX5_readOnce_100 ?_
        refine gj_sipush C dX5_readOnce_101 rfl ?_
        refine mj_callVI (As := [.int (iI 0), .int (iI 999)]) (rest := [.int (iI 82), .ref (g.2.2 + 6)]) C K dX5_readOnce_104 (met5_takeNumber (cx_l X) g 0 999) (lw_V q2066 q2068 qs71 q134 q2069) hy5_takeNumber hR (Nat.le_of_ble_eq_true rfl) (by decide) rfl rfl (Nat.le_of_ble_eq_true rfl) (fun v104 => ?_)
        refine mj_iast (j := 6) C K dX5_readOnce_107 (by decide) (by decide) rfl ?_
        refine gj_goto (tgt := 151) C dX5_readOnce_108 (by decide) ?_
        exact mj_vret C hQ hr dX5_readOnce_151
    · exact mj_vret C hQ hr dX5_readOnce_72
  have J60 : ∀ (a1 : Int), GJ X 2 (mWo g (cx_s X).heap) Q (m5_readOnce_j60 a1) 60 [(0, .ref (g.2.2)), (1, .int (iI a1))] [] := by
    intro a1
    unfold m5_readOnce_j60
    refine gj_aload_n C dX5_readOnce_60 0 rfl ?_
    refine gj_iconst C dX5_readOnce_61 ?_
    refine mj_callVV (As := [.int (iI 3)]) (rest := []) C K dX5_readOnce_62 (met5_wrong (cx_l X) g 3) (lw_V q2034 q2036 qs63 q134 q2037) hy5_wrong hR (Nat.le_of_ble_eq_true rfl) (by decide) rfl rfl (Nat.zero_le _) ?_
    exact gj_to [0, 1] (J65 a1) rfl
  have J20 : ∀ (s0 : Int), GJ X 2 (mWo g (cx_s X).heap) Q (m5_readOnce_j20 s0) 20 [(0, .ref (g.2.2))] [.int (iI s0)] := by
    intro s0
    unfold m5_readOnce_j20
    refine gj_istore_n (L' := [(1, _), (0, _)]) C dX5_readOnce_20 (by decide) rfl ?_
    refine gj_iload_n C dX5_readOnce_21 0 rfl ?_
    refine gj_if_ge (tgt := 33) C dX5_readOnce_22 (by decide) (fun h22 => gj_neg h22 ?_) (fun h22 => gj_pos h22 ?_)
    · refine gj_iload_n C dX5_readOnce_33 0 rfl ?_
      refine gj_iconst C dX5_readOnce_34 ?_
      refine gj_icmp_ne (tgt := 48) (b' := 4) C dX5_readOnce_35 (by decide) rfl (by decide) (fun h35 => gj_neg h35 ?_) (fun h35 => gj_pos h35 ?_)
      · refine gj_aload_n C dX5_readOnce_48 1 rfl ?_
        refine mj_getR (kf := 10) (j := 6) C K dX5_readOnce_49 (by decide) (by decide) rfl (by decide) q1881 rfl ?_
        refine gj_bipush C dX5_readOnce_52 rfl ?_
        refine gj_iload_n C dX5_readOnce_54 0 rfl ?_
        refine gj_iadd C dX5_readOnce_55 ?_
        refine mj_iald (j := 6) C K dX5_readOnce_56 (by decide) rfl (fun v56 => ?_)
        refine gj_if_lt (tgt := 65) C dX5_readOnce_57 (by decide) (fun h57 => gj_pos h57 ?_) (fun h57 => gj_neg h57 ?_)
        · exact gj_to [1, 0] (J65 s0) rfl
        · exact gj_to [1, 0] (J60 s0) rfl
      · refine gj_aload_n C dX5_readOnce_38 1 rfl ?_
        refine mj_getI (kf := 18) C K dX5_readOnce_39 (by decide) (by decide) rfl q1889 rfl (fun v39 => ?_)
        refine gj_if_eq (tgt := 65) C dX5_readOnce_42 (by decide) (fun h42 => gj_pos h42 ?_) (fun h42 => gj_neg h42 ?_)
        · exact gj_to [1, 0] (J65 s0) rfl
        · refine gj_goto (tgt := 60) C dX5_readOnce_45 (by decide) ?_
          exact gj_to [1, 0] (J60 s0) rfl
    · refine gj_aload_n C dX5_readOnce_25 1 rfl ?_
      refine gj_iconst C dX5_readOnce_26 ?_
      refine mj_callVV (As := [.int (iI 1)]) (rest := []) C K dX5_readOnce_27 (met5_wrong (cx_l X) g 1) (lw_V q2034 q2036 qs63 q134 q2037) hy5_wrong hR (Nat.le_of_ble_eq_true rfl) (by decide) rfl rfl (Nat.zero_le _) ?_
      refine gj_goto (tgt := 65) C dX5_readOnce_30 (by decide) ?_
      exact gj_to [1, 0] (J65 s0) rfl
  unfold m5_readOnce
  refine gj_aload_n C dX5_readOnce_0 0 rfl ?_
  refine gj_bipush C dX5_readOnce_1 rfl ?_
  refine mj_callVI (As := [.int (iI 6)]) (rest := []) C K dX5_readOnce_3 (met5_isWord (cx_l X) g 6) (lw_V q2026 q2028 qs61 q134 q2029) hy5_isWord hR (Nat.le_of_ble_eq_true rfl) (by decide) rfl rfl (Nat.zero_le _) (fun v3 => ?_)
  refine gj_if_eq (tgt := 13) C dX5_readOnce_6 (by decide) (fun h6 => gj_pos h6 ?_) (fun h6 => gj_neg h6 ?_)
  · refine gj_aload_n C dX5_readOnce_13 0 rfl ?_
    refine gj_bipush C dX5_readOnce_14 rfl ?_
    refine gj_iconst C dX5_readOnce_16 ?_
    refine mj_callVI (As := [.int (iI 7), .int (iI 4)]) (rest := []) C K dX5_readOnce_17 (met5_wordHere (cx_l X) g 7 4) (lw_V q2042 q2044 qs65 q134 q2045) hy5_wordHere hR (Nat.le_of_ble_eq_true rfl) (by decide) rfl rfl (Nat.zero_le _) (fun v17 => ?_)
    exact gj_to [0] (J20 v17) rfl
  · refine gj_iconst C dX5_readOnce_9 ?_
    refine gj_goto (tgt := 20) C dX5_readOnce_10 (by decide) ?_
    exact gj_to [0] (J20 4) rfl
def m5_takeWord (a1 : Int) : MM Unit :=
  pbnd (m5_hasWord a1) fun v2 =>
  pite (w32 v2 = 0) (
    pbnd (m5_wrong 1) fun _ =>
    pret ()) (
    pret ())
set_option maxHeartbeats 4000000 in
set_option maxRecDepth 100000 in
theorem met5_takeWord (l : Launch) (g : MG) (a1 : Int) : MMet l g yX5_takeWord cX5_takeWord 2 (Option.none : Option Jvm.ClassFile.FieldType) (2) [.ref (g.2.2), .int (iI a1)] (m5_takeWord a1) rvV := by
  refine mj_start (by decide +kernel) rfl (Nat.le_of_ble_eq_true rfl) (fun X Q hl C K hQ hR hr => ?_)
  subst hl
  show GJ X 2 (mWo g (cx_s X).heap) Q (m5_takeWord a1) 0 [(0, .ref (g.2.2)), (1, .int (iI a1))] []
  unfold m5_takeWord
  refine gj_aload_n C dX5_takeWord_0 0 rfl ?_
  refine gj_iload_n C dX5_takeWord_1 1 rfl ?_
  refine mj_callVI (As := [.int (iI a1)]) (rest := []) C K dX5_takeWord_2 (met5_hasWord (cx_l X) g a1) (lw_V q2062 q2064 qs70 q134 q2065) hy5_hasWord hR (Nat.le_of_ble_eq_true rfl) (by decide) rfl rfl (Nat.zero_le _) (fun v2 => ?_)
  refine gj_if_ne (tgt := 13) C dX5_takeWord_5 (by decide) (fun h5 => gj_neg h5 ?_) (fun h5 => gj_pos h5 ?_)
  · exact mj_vret C hQ hr dX5_takeWord_13
  · refine gj_aload_n C dX5_takeWord_8 0 rfl ?_
    refine gj_iconst C dX5_takeWord_9 ?_
    refine mj_callVV (As := [.int (iI 1)]) (rest := []) C K dX5_takeWord_10 (met5_wrong (cx_l X) g 1) (lw_V q2034 q2036 qs63 q134 q2037) hy5_wrong hR (Nat.le_of_ble_eq_true rfl) (by decide) rfl rfl (Nat.zero_le _) ?_
    exact mj_vret C hQ hr dX5_takeWord_13
def m5_takeAfter (a1 a2 a3 : Int) : MM Int :=
  pbnd (m5_takeWord a1) fun _ =>
  pbnd (m5_takeNumber a2 a3) fun v8 =>
  pret v8
set_option maxHeartbeats 4000000 in
set_option maxRecDepth 100000 in
theorem met5_takeAfter (l : Launch) (g : MG) (a1 a2 a3 : Int) : MMet l g yX5_takeAfter cX5_takeAfter 4 (Option.some Jvm.ClassFile.FieldType.int) (3) [.ref (g.2.2), .int (iI a1), .int (iI a2), .int (iI a3)] (m5_takeAfter a1 a2 a3) rvI := by
  refine mj_start (by decide +kernel) rfl (Nat.le_of_ble_eq_true rfl) (fun X Q hl C K hQ hR hr => ?_)
  subst hl
  show GJ X 4 (mWo g (cx_s X).heap) Q (m5_takeAfter a1 a2 a3) 0 [(0, .ref (g.2.2)), (1, .int (iI a1)), (2, .int (iI a2)), (3, .int (iI a3))] []
  unfold m5_takeAfter
  refine gj_aload_n C dX5_takeAfter_0 0 rfl ?_
  refine gj_iload_n C dX5_takeAfter_1 1 rfl ?_
  refine mj_callVV (As := [.int (iI a1)]) (rest := []) C K dX5_takeAfter_2 (met5_takeWord (cx_l X) g a1) (lw_V q2058 q2060 qs69 q134 q2061) hy5_takeWord hR (Nat.le_of_ble_eq_true rfl) (by decide) rfl rfl (Nat.zero_le _) ?_
  refine gj_aload_n C dX5_takeAfter_5 0 rfl ?_
  refine gj_iload_n C dX5_takeAfter_6 2 rfl ?_
  refine gj_iload_n C dX5_takeAfter_7 3 rfl ?_
  refine mj_callVI (As := [.int (iI a2), .int (iI a3)]) (rest := []) C K dX5_takeAfter_8 (met5_takeNumber (cx_l X) g a2 a3) (lw_V q2066 q2068 qs71 q134 q2069) hy5_takeNumber hR (Nat.le_of_ble_eq_true rfl) (by decide) rfl rfl (Nat.zero_le _) (fun v8 => ?_)
  exact mj_iret C hQ hr dX5_takeAfter_11
def m5_takeOne_j34 (a3 : Int) : MM Int :=
  pbnd (mget 7) fun v36 =>
  pbnd (mget 8) fun v40 =>
  plet (if 0 < w32 v40 then 0 else 1) fun d51 =>
  pbnd (mput 7 (w32 (v36 + d51))) fun _ =>
  pbnd (mget 8) fun v56 =>
  plet (if 0 < w32 v56 then 0 else a3) fun d67 =>
  pret (w32 d67)
def m5_takeOne_j17 (s0 : Int) : MM Int :=
  pbnd (mget 8) fun v19 =>
  pite (w32 v19 = 0) (
    pite (w32 s0 < 0) (
      pbnd (m5_wrong 1) fun _ =>
      m5_takeOne_j34 s0) (
      m5_takeOne_j34 s0)) (
    m5_takeOne_j34 s0)
def m5_takeOne (a1 a2 : Int) : MM Int :=
  pbnd (mget 8) fun v1 =>
  pite (0 < w32 v1) (
    m5_takeOne_j17 (-1)) (
    pbnd (m5_wordHere a1 a2) fun v14 =>
    m5_takeOne_j17 v14)
set_option maxHeartbeats 4000000 in
set_option maxRecDepth 100000 in
theorem met5_takeOne (l : Launch) (g : MG) (a1 a2 : Int) : MMet l g yX5_takeOne cX5_takeOne 4 (Option.some Jvm.ClassFile.FieldType.int) (2) [.ref (g.2.2), .int (iI a1), .int (iI a2)] (m5_takeOne a1 a2) rvI := by
  refine mj_start (by decide +kernel) rfl (Nat.le_of_ble_eq_true rfl) (fun X Q hl C K hQ hR hr => ?_)
  subst hl
  show GJ X 4 (mWo g (cx_s X).heap) Q (m5_takeOne a1 a2) 0 [(0, .ref (g.2.2)), (1, .int (iI a1)), (2, .int (iI a2))] []
  have J34 : ∀ (a3 : Int), GJ X 4 (mWo g (cx_s X).heap) Q (m5_takeOne_j34 a3) 34 [(0, .ref (g.2.2)), (3, .int (iI a3))] [] := by
    intro a3
    unfold m5_takeOne_j34
    refine gj_aload_n C dX5_takeOne_34 0 rfl ?_
    refine gj_dup C dX5_takeOne_35 rfl ?_
    refine mj_getI (kf := 7) C K dX5_takeOne_36 (by decide) (by decide) rfl q1878 rfl (fun v36 => ?_)
    refine gj_aload_n C dX5_takeOne_39 0 rfl ?_
    refine mj_getI (kf := 8) C K dX5_takeOne_40 (by decide) (by decide) rfl q1879 rfl (fun v40 => ?_)
    refine gj_dia (J := 51) (L := [(0, .ref (g.2.2)), (3, .int (iI a3))]) (st := [.int (iI v36), .ref (g.2.2)]) (fun d51 => ?_) (fun t hJ => ?_)
    · skip
      refine gj_iadd C dX5_takeOne_51 ?_
      refine gj_nrmI ?_
      refine mj_putI (kf := 7) C K dX5_takeOne_52 (by decide) (by decide) rfl q1878 rfl rfl (by decide +kernel) ?_
      refine gj_aload_n C dX5_takeOne_55 0 rfl ?_
      refine mj_getI (kf := 8) C K dX5_takeOne_56 (by decide) (by decide) rfl q1879 rfl (fun v56 => ?_)
      refine gj_dia (J := 67) (L := [(0, .ref (g.2.2)), (3, .int (iI a3))]) (st := []) (fun d67 => ?_) (fun t hJ => ?_)
      · skip
        refine gj_nrmI ?_
        exact mj_iret C hQ hr dX5_takeOne_67
      · refine gj_if_le (tgt := 66) C dX5_takeOne_59 (by decide) (fun h59 => ?_) (fun h59 => ?_)
        · refine gj_iload_n C dX5_takeOne_66 1 rfl ?_
          exact (by rw [if_neg h59] at hJ; exact hJ)
        · refine gj_iconst C dX5_takeOne_62 ?_
          refine gj_goto (tgt := 67) C dX5_takeOne_63 (by decide) ?_
          exact (by rw [if_pos h59] at hJ; exact hJ)
    · refine gj_if_le (tgt := 50) C dX5_takeOne_43 (by decide) (fun h43 => ?_) (fun h43 => ?_)
      · refine gj_iconst C dX5_takeOne_50 ?_
        exact (by rw [if_neg h43] at hJ; exact hJ)
      · refine gj_iconst C dX5_takeOne_46 ?_
        refine gj_goto (tgt := 51) C dX5_takeOne_47 (by decide) ?_
        exact (by rw [if_pos h43] at hJ; exact hJ)
  have J17 : ∀ (s0 : Int), GJ X 4 (mWo g (cx_s X).heap) Q (m5_takeOne_j17 s0) 17 [(0, .ref (g.2.2))] [.int (iI s0)] := by
    intro s0
    unfold m5_takeOne_j17
    refine gj_istore_n (L' := [(3, _), (0, _)]) C dX5_takeOne_17 (by decide) rfl ?_
    refine gj_aload_n C dX5_takeOne_18 1 rfl ?_
    refine mj_getI (kf := 8) C K dX5_takeOne_19 (by decide) (by decide) rfl q1879 rfl (fun v19 => ?_)
    refine gj_if_ne (tgt := 34) C dX5_takeOne_22 (by decide) (fun h22 => gj_neg h22 ?_) (fun h22 => gj_pos h22 ?_)
    · exact gj_to [1, 0] (J34 s0) rfl
    · refine gj_iload_n C dX5_takeOne_25 0 rfl ?_
      refine gj_if_ge (tgt := 34) C dX5_takeOne_26 (by decide) (fun h26 => gj_neg h26 ?_) (fun h26 => gj_pos h26 ?_)
      · exact gj_to [1, 0] (J34 s0) rfl
      · refine gj_aload_n C dX5_takeOne_29 1 rfl ?_
        refine gj_iconst C dX5_takeOne_30 ?_
        refine mj_callVV (As := [.int (iI 1)]) (rest := []) C K dX5_takeOne_31 (met5_wrong (cx_l X) g 1) (lw_V q2034 q2036 qs63 q134 q2037) hy5_wrong hR (Nat.le_of_ble_eq_true rfl) (by decide) rfl rfl (Nat.zero_le _) ?_
        exact gj_to [1, 0] (J34 s0) rfl
  unfold m5_takeOne
  refine gj_aload_n C dX5_takeOne_0 0 rfl ?_
  refine mj_getI (kf := 8) C K dX5_takeOne_1 (by decide) (by decide) rfl q1879 rfl (fun v1 => ?_)
  refine gj_if_le (tgt := 11) C dX5_takeOne_4 (by decide) (fun h4 => gj_neg h4 ?_) (fun h4 => gj_pos h4 ?_)
  · refine gj_aload_n C dX5_takeOne_11 0 rfl ?_
    refine gj_iload_n C dX5_takeOne_12 1 rfl ?_
    refine gj_iload_n C dX5_takeOne_13 2 rfl ?_
    refine mj_callVI (As := [.int (iI a1), .int (iI a2)]) (rest := []) C K dX5_takeOne_14 (met5_wordHere (cx_l X) g a1 a2) (lw_V q2042 q2044 qs65 q134 q2045) hy5_wordHere hR (Nat.le_of_ble_eq_true rfl) (by decide) rfl rfl (Nat.zero_le _) (fun v14 => ?_)
    exact gj_to [0] (J17 v14) rfl
  · refine gj_iconst C dX5_takeOne_7 ?_
    refine gj_goto (tgt := 17) C dX5_takeOne_8 (by decide) ?_
    exact gj_to [0] (J17 (-1)) rfl
def m5_readPerson_j58 (a1 : Int) : MM Unit :=
  pbnd (mget 8) fun v59 =>
  pite (0 < w32 v59) (
    pret ()) (
    pbnd (mget 17) fun v71 =>
    pbnd (mget 7) fun v79 =>
    pbnd (mrd 4 1002 v79) fun v82 =>
    pbnd (mwr 10 6 v71 v82) fun _ =>
    pbnd (mget 17) fun v86 =>
    pbnd (mput 17 (w32 (v86 + 1))) fun _ =>
    pbnd (mget 7) fun v96 =>
    pbnd (mput 7 (w32 (v96 + 1))) fun _ =>
    plet (88 + ((5 * a1))) fun x110 =>
    pbnd (m5_takeOne 15 4) fun v120 =>
    pbnd (mwr 6 160 x110 v120) fun _ =>
    pbnd (m5_takeAfter 1 0 9) fun v136 =>
    pbnd (mwr 6 160 (x110 + 1) v136) fun _ =>
    pbnd (m5_takeAfter 2 0 999) fun v153 =>
    pbnd (mwr 6 160 (x110 + 2) v153) fun _ =>
    pbnd (m5_takeAfter 3 0 999) fun v170 =>
    pbnd (mwr 6 160 (x110 + 3) v170) fun _ =>
    pbnd (m5_takeAfter 4 0 9) fun v186 =>
    pbnd (mwr 6 160 (x110 + 4) v186) fun _ =>
    pbnd (mrd 6 160 80) fun v197 =>
    pbnd (mwr 6 160 80 (w32 (v197 + 1))) fun _ =>
    pret ())
def m5_readPerson : MM Unit :=
  pbnd (mrd 6 160 80) fun v6 =>
  pite (w32 v6 = 6) (
    pbnd (m5_wrong 5) fun _ =>
    pret ()) (
    pbnd (mget 7) fun v22 =>
    pbnd (mput 7 (w32 (v22 + 1))) fun _ =>
    pbnd (m5_isName) fun v31 =>
    pite (w32 v31 = 0) (
      pbnd (m5_wrong 1) fun _ =>
      m5_readPerson_j58 v6) (
      pbnd (m5_find 1) fun v47 =>
      pite (w32 v47 < 0) (
        m5_readPerson_j58 v6) (
        pbnd (m5_wrong 3) fun _ =>
        m5_readPerson_j58 v6)))
set_option maxHeartbeats 4000000 in
set_option maxRecDepth 100000 in
theorem met5_readPerson (l : Launch) (g : MG) : MMet l g yX5_readPerson cX5_readPerson 3 (Option.none : Option Jvm.ClassFile.FieldType) (4) [.ref (g.2.2)] (m5_readPerson) rvV := by
  refine mj_start (by decide +kernel) rfl (Nat.le_of_ble_eq_true rfl) (fun X Q hl C K hQ hR hr => ?_)
  subst hl
  show GJ X 3 (mWo g (cx_s X).heap) Q (m5_readPerson) 0 [(0, .ref (g.2.2))] []
  have J58 : ∀ (a1 : Int), GJ X 3 (mWo g (cx_s X).heap) Q (m5_readPerson_j58 a1) 58 [(0, .ref (g.2.2)), (1, .int (iI a1))] [] := by
    intro a1
    unfold m5_readPerson_j58
    refine gj_aload_n C dX5_readPerson_58 0 rfl ?_
    refine mj_getI (kf := 8) C K dX5_readPerson_59 (by decide) (by decide) rfl q1879 rfl (fun v59 => ?_)
    refine gj_if_le (tgt := 66) C dX5_readPerson_62 (by decide) (fun h62 => gj_neg h62 ?_) (fun h62 => gj_pos h62 ?_)
    · refine gj_aload_n C dX5_readPerson_66 0 rfl ?_
      refine mj_getR (kf := 15) (j := 10) C K dX5_readPerson_67 (by decide) (by decide) rfl (by decide) q1886 rfl ?_
      refine gj_aload_n C dX5_readPerson_70 0 rfl ?_
      refine mj_getI (kf := 17) C K dX5_readPerson_71 (by decide) (by decide) rfl q1888 rfl (fun v71 => ?_)
      refine gj_aload_n C dX5_readPerson_74 0 rfl ?_
      refine mj_getR (kf := 6) (j := 4) C K dX5_readPerson_75 (by decide) (by decide) rfl (by decide) q1877 rfl ?_
      refine gj_aload_n C dX5_readPerson_78 0 rfl ?_
      refine mj_getI (kf := 7) C K dX5_readPerson_79 (by decide) (by decide) rfl q1878 rfl (fun v79 => ?_)
      refine mj_lald (j := 4) C K dX5_readPerson_82 (by decide) rfl (fun v82 => ?_)
      refine mj_last (j := 10) C K dX5_readPerson_83 (by decide) (by decide) rfl ?_
      refine gj_aload_n C dX5_readPerson_84 0 rfl ?_
      refine gj_dup C dX5_readPerson_85 rfl ?_
      refine mj_getI (kf := 17) C K dX5_readPerson_86 (by decide) (by decide) rfl q1888 rfl (fun v86 => ?_)
      refine gj_iconst C dX5_readPerson_89 ?_
      refine gj_iadd C dX5_readPerson_90 ?_
      refine gj_nrmI ?_
      refine mj_putI (kf := 17) C K dX5_readPerson_91 (by decide) (by decide) rfl q1888 rfl rfl (by decide +kernel) ?_
      refine gj_aload_n C dX5_readPerson_94 0 rfl ?_
      refine gj_dup C dX5_readPerson_95 rfl ?_
      refine mj_getI (kf := 7) C K dX5_readPerson_96 (by decide) (by decide) rfl q1878 rfl (fun v96 => ?_)
      refine gj_iconst C dX5_readPerson_99 ?_
      refine gj_iadd C dX5_readPerson_100 ?_
      refine gj_nrmI ?_
      refine mj_putI (kf := 7) C K dX5_readPerson_101 (by decide) (by decide) rfl q1878 rfl rfl (by decide +kernel) ?_
      refine gj_bipush C dX5_readPerson_104 rfl ?_
      refine gj_iconst C dX5_readPerson_106 ?_
      refine gj_iload_n C dX5_readPerson_107 1 rfl ?_
      refine gj_imul C dX5_readPerson_108 ?_
      refine gj_iadd C dX5_readPerson_109 ?_
      refine gj_let (fun x110 => ?_)
      refine gj_istore_n (L' := [(2, _), (0, _), (1, _)]) C dX5_readPerson_110 (by decide) rfl ?_
      refine gj_aload_n C dX5_readPerson_111 1 rfl ?_
      refine mj_getR (kf := 10) (j := 6) C K dX5_readPerson_112 (by decide) (by decide) rfl (by decide) q1881 rfl ?_
      refine gj_iload_n C dX5_readPerson_115 0 rfl ?_
      refine gj_aload_n C dX5_readPerson_116 1 rfl ?_
      refine gj_bipush C dX5_readPerson_117 rfl ?_
      refine gj_iconst C dX5_readPerson_119 ?_
      refine mj_callVI (As := [.int (iI 15), .int (iI 4)]) (rest := [.int (iI x110), .ref (g.2.2 + 6)]) C K dX5_readPerson_120 (met5_takeOne (cx_l X) g 15 4) (lw_V q2050 q2052 qs67 q134 q2053) hy5_takeOne hR (Nat.le_of_ble_eq_true rfl) (by decide) rfl rfl (Nat.le_of_ble_eq_true rfl) (fun v120 => ?_)
      refine mj_iast (j := 6) C K dX5_readPerson_123 (by decide) (by decide) rfl ?_
      refine gj_aload_n C dX5_readPerson_124 1 rfl ?_
      refine mj_getR (kf := 10) (j := 6) C K dX5_readPerson_125 (by decide) (by decide) rfl (by decide) q1881 rfl ?_
      refine gj_iload_n C dX5_readPerson_128 0 rfl ?_
      refine gj_iconst C dX5_readPerson_129 ?_
      refine gj_iadd C dX5_readPerson_130 ?_
      refine gj_aload_n C dX5_readPerson_131 1 rfl ?_
      refine gj_iconst C dX5_readPerson_132 ?_
      refine gj_iconst C dX5_readPerson_133 ?_
      refine gj_bipush C dX5_readPerson_134 rfl ?_
      refine mj_callVI (As := [.int (iI 1), .int (iI 0), .int (iI 9)]) (rest := [.int (iI ((x110 + 1))), .ref (g.2.2 + 6)]) C K dX5_readPerson_136 (met5_takeAfter (cx_l X) g 1 0 9) (lw_V q2054 q2056 qs68 q134 q2057) hy5_takeAfter hR (Nat.le_of_ble_eq_true rfl) (by decide) rfl rfl (Nat.le_of_ble_eq_true rfl) (fun v136 => ?_)
      refine mj_iast (j := 6) C K dX5_readPerson_139 (by decide) (by decide) rfl ?_
      refine gj_aload_n C dX5_readPerson_140 1 rfl ?_
      refine mj_getR (kf := 10) (j := 6) C K dX5_readPerson_141 (by decide) (by decide) rfl (by decide) q1881 rfl ?_
      refine gj_iload_n C dX5_readPerson_144 0 rfl ?_
      refine gj_iconst C dX5_readPerson_145 ?_
      refine gj_iadd C dX5_readPerson_146 ?_
      refine gj_aload_n C dX5_readPerson_147 1 rfl ?_
      refine gj_iconst C dX5_readPerson_148 ?_
      refine gj_iconst C dX5_readPerson_149 ?_
      refine gj_sipush C dX5_readPerson_150 rfl ?_
      refine mj_callVI (As := [.int (iI 2), .int (iI 0), .int (iI 999)]) (rest := [.int (iI ((x110 + 2))), .ref (g.2.2 + 6)]) C K dX5_readPerson_153 (met5_takeAfter (cx_l X) g 2 0 999) (lw_V q2054 q2056 qs68 q134 q2057) hy5_takeAfter hR (Nat.le_of_ble_eq_true rfl) (by decide) rfl rfl (Nat.le_of_ble_eq_true rfl) (fun v153 => ?_)
      refine mj_iast (j := 6) C K dX5_readPerson_156 (by decide) (by decide) rfl ?_
      refine gj_aload_n C dX5_readPerson_157 1 rfl ?_
      refine mj_getR (kf := 10) (j := 6) C K dX5_readPerson_158 (by decide) (by decide) rfl (by decide) q1881 rfl ?_
      refine gj_iload_n C dX5_readPerson_161 0 rfl ?_
      refine gj_iconst C dX5_readPerson_162 ?_
      refine gj_iadd C dX5_readPerson_163 ?_
      refine gj_aload_n C dX5_readPerson_164 1 rfl ?_
      refine gj_iconst C dX5_readPerson_165 ?_
      refine gj_iconst C dX5_readPerson_166 ?_
      refine gj_sipush C dX5_readPerson_167 rfl ?_
      refine mj_callVI (As := [.int (iI 3), .int (iI 0), .int (iI 999)]) (rest := [.int (iI ((x110 + 3))), .ref (g.2.2 + 6)]) C K dX5_readPerson_170 (met5_takeAfter (cx_l X) g 3 0 999) (lw_V q2054 q2056 qs68 q134 q2057) hy5_takeAfter hR (Nat.le_of_ble_eq_true rfl) (by decide) rfl rfl (Nat.le_of_ble_eq_true rfl) (fun v170 => ?_)
      refine mj_iast (j := 6) C K dX5_readPerson_173 (by decide) (by decide) rfl ?_
      refine gj_aload_n C dX5_readPerson_174 1 rfl ?_
      refine mj_getR (kf := 10) (j := 6) C K dX5_readPerson_175 (by decide) (by decide) rfl (by decide) q1881 rfl ?_
      refine gj_iload_n C dX5_readPerson_178 0 rfl ?_
      refine gj_iconst C dX5_readPerson_179 ?_
      refine gj_iadd C dX5_readPerson_180 ?_
      refine gj_aload_n C dX5_readPerson_181 1 rfl ?_
      refine gj_iconst C dX5_readPerson_182 ?_
      refine gj_iconst C dX5_readPerson_183 ?_
      refine gj_bipush C dX5_readPerson_184 rfl ?_
      refine mj_callVI (As := [.int (iI 4), .int (iI 0), .int (iI 9)]) (rest := [.int (iI ((x110 + 4))), .ref (g.2.2 + 6)]) C K dX5_readPerson_186 (met5_takeAfter (cx_l X) g 4 0 9) (lw_V q2054 q2056 qs68 q134 q2057) hy5_takeAfter hR (Nat.le_of_ble_eq_true rfl) (by decide) rfl rfl (Nat.le_of_ble_eq_true rfl) (fun v186 => ?_)
      refine mj_iast (j := 6) C K dX5_readPerson_189 (by decide) (by decide) rfl ?_
      refine gj_aload_n C dX5_readPerson_190 1 rfl ?_
      refine mj_getR (kf := 10) (j := 6) C K dX5_readPerson_191 (by decide) (by decide) rfl (by decide) q1881 rfl ?_
      refine gj_bipush C dX5_readPerson_194 rfl ?_
      refine gj_dup2 C dX5_readPerson_196 rfl rfl ?_
      refine mj_iald (j := 6) C K dX5_readPerson_197 (by decide) rfl (fun v197 => ?_)
      refine gj_iconst C dX5_readPerson_198 ?_
      refine gj_iadd C dX5_readPerson_199 ?_
      refine gj_nrmI ?_
      refine mj_iast (j := 6) C K dX5_readPerson_200 (by decide) (by decide) rfl ?_
      exact mj_vret C hQ hr dX5_readPerson_201
    · exact mj_vret C hQ hr dX5_readPerson_65
  unfold m5_readPerson
  refine gj_aload_n C dX5_readPerson_0 0 rfl ?_
  refine mj_getR (kf := 10) (j := 6) C K dX5_readPerson_1 (by decide) (by decide) rfl (by decide) q1881 rfl ?_
  refine gj_bipush C dX5_readPerson_4 rfl ?_
  refine mj_iald (j := 6) C K dX5_readPerson_6 (by decide) rfl (fun v6 => ?_)
  refine gj_istore_n (L' := [(1, _), (0, _)]) C dX5_readPerson_7 (by decide) rfl ?_
  refine gj_iload_n C dX5_readPerson_8 0 rfl ?_
  refine gj_bipush C dX5_readPerson_9 rfl ?_
  refine gj_icmp_ne (tgt := 20) (b' := 6) C dX5_readPerson_11 (by decide) rfl (by decide) (fun h11 => gj_neg h11 ?_) (fun h11 => gj_pos h11 ?_)
  · refine gj_aload_n C dX5_readPerson_20 1 rfl ?_
    refine gj_dup C dX5_readPerson_21 rfl ?_
    refine mj_getI (kf := 7) C K dX5_readPerson_22 (by decide) (by decide) rfl q1878 rfl (fun v22 => ?_)
    refine gj_iconst C dX5_readPerson_25 ?_
    refine gj_iadd C dX5_readPerson_26 ?_
    refine gj_nrmI ?_
    refine mj_putI (kf := 7) C K dX5_readPerson_27 (by decide) (by decide) rfl q1878 rfl rfl (by decide +kernel) ?_
    refine gj_aload_n C dX5_readPerson_30 1 rfl ?_
    refine mj_callVI (As := []) (rest := []) C K dX5_readPerson_31 (met5_isName (cx_l X) g) (lw_V q2038 q2040 qs64 q134 q2041) hy5_isName hR (Nat.le_of_ble_eq_true rfl) (by decide) rfl rfl (Nat.zero_le _) (fun v31 => ?_)
    refine gj_if_ne (tgt := 45) C dX5_readPerson_34 (by decide) (fun h34 => gj_neg h34 ?_) (fun h34 => gj_pos h34 ?_)
    · refine gj_aload_n C dX5_readPerson_45 1 rfl ?_
      refine gj_iconst C dX5_readPerson_46 ?_
      refine mj_callVI (As := [.int (iI 1)]) (rest := []) C K dX5_readPerson_47 (met5_find (cx_l X) g 1) (lw_V q2046 q2048 qs66 q134 q2049) hy5_find hR (Nat.le_of_ble_eq_true rfl) (by decide) rfl rfl (Nat.zero_le _) (fun v47 => ?_)
      refine gj_if_lt (tgt := 58) C dX5_readPerson_50 (by decide) (fun h50 => gj_pos h50 ?_) (fun h50 => gj_neg h50 ?_)
      · exact gj_to [1, 0] (J58 v6) rfl
      · refine gj_aload_n C dX5_readPerson_53 1 rfl ?_
        refine gj_iconst C dX5_readPerson_54 ?_
        refine mj_callVV (As := [.int (iI 3)]) (rest := []) C K dX5_readPerson_55 (met5_wrong (cx_l X) g 3) (lw_V q2034 q2036 qs63 q134 q2037) hy5_wrong hR (Nat.le_of_ble_eq_true rfl) (by decide) rfl rfl (Nat.zero_le _) ?_
        exact gj_to [1, 0] (J58 v6) rfl
    · refine gj_aload_n C dX5_readPerson_37 1 rfl ?_
      refine gj_iconst C dX5_readPerson_38 ?_
      refine mj_callVV (As := [.int (iI 1)]) (rest := []) C K dX5_readPerson_39 (met5_wrong (cx_l X) g 1) (lw_V q2034 q2036 qs63 q134 q2037) hy5_wrong hR (Nat.le_of_ble_eq_true rfl) (by decide) rfl rfl (Nat.zero_le _) ?_
      refine gj_goto (tgt := 58) C dX5_readPerson_42 (by decide) ?_
      exact gj_to [1, 0] (J58 v6) rfl
  · refine gj_aload_n C dX5_readPerson_14 1 rfl ?_
    refine gj_iconst C dX5_readPerson_15 ?_
    refine mj_callVV (As := [.int (iI 5)]) (rest := []) C K dX5_readPerson_16 (met5_wrong (cx_l X) g 5) (lw_V q2034 q2036 qs63 q134 q2037) hy5_wrong hR (Nat.le_of_ble_eq_true rfl) (by decide) rfl rfl (Nat.zero_le _) ?_
    exact mj_vret C hQ hr dX5_readPerson_19
