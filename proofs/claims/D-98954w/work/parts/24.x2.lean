/-! THE COMPONENT: its methods as pure programs, and that the machine runs so (J16.copyOf_2, J2.grow_2, J2.grow, J2.add_2, J2.add, X1.isIn, X2.isSign, X11.init, X12.init, X13.init, X14.init, X15.init, X16.init, X17.init, X18.init, X19.init, X20.init, X21.init, X1.people, X1.in, X1.isPerson, X1.person_2, X10.kind, X7.kind, X8.kind, X9.kind, X4.lifeOf, X1.person, X4.harmOf, X4.goodOf, X1.life, X1.mayBe, X1.may, X22.init, X23.init, X23.sees, X1.copies, X24.sees, X3.sign, X4.be, X4.goes): printed by genx.py -/
def j16_copyOf_2 (a0 : Option Nat) (a1 : Int) : PT Hp (Option Nat) :=
  pbnd (xrecv a0 44) fun _ =>
  pbnd (j16_copyOf_3 a0 a1 (some (CB + 201))) fun v6 =>
  pret v6
set_option maxHeartbeats 4000000 in
set_option maxRecDepth 100000 in
theorem mj16_copyOf_2 (l : Launch) (g : XG) (a0 : Option Nat) (a1 : Int) : XMet l g yJ16_copyOf_2 cJ16_copyOf_2 2 (Option.some (Jvm.ClassFile.FieldType.array (Jvm.ClassFile.FieldType.object "java/lang/Object"))) (2) [rv g a0, .int (iI a1)] (j16_copyOf_2 a0 a1) (rvR g) := by
  refine gx_start (by decide +kernel) (by have e := lg_sl_len [rv g a0, .int (iI a1)]; simp only [List.map_cons, List.map_nil, List.sum_cons, List.sum_nil, rv_cat, cat_int, cat_long] at e; omega) (fun X Q σ0 hl C E hQ hR hr hnm => ?_)
  subst hl
  rw [show lv_args 0 [rv g a0, .int (iI a1)] = [(0, rv g a0), (1, .int (iI a1))] from by simp [lv_args, rv_cat, cat_int, cat_long]]
  show GJ X 2 (xWo g σ0 (cx_s X).heap) Q (j16_copyOf_2 a0 a1) 0 [(0, rv g a0), (1, .int (iI a1))] []
  unfold j16_copyOf_2
  refine gx_aload_n C dJ16_copyOf_2_0 0 rfl ?_
  refine gj_iload_n C dJ16_copyOf_2_1 1 rfl ?_
  refine gx_aload_n C dJ16_copyOf_2_2 0 rfl ?_
  refine gx_getC C E dJ16_copyOf_2_3 q979 hR (Nat.le_of_ble_eq_true rfl) (by simp only [List.map_cons, List.map_nil, List.sum_cons, List.sum_nil, rv_cat, cat_int, cat_long]; decide) ?_
  refine gx_callSR (As := [rv g a0, .int (iI a1), rv g ((some (CB + 201)))]) (rest := []) C E dJ16_copyOf_2_6 (mj16_copyOf_3 (cx_l X) g a0 a1 (some (CB + 201))) (lw_S q1013 q1014 q147 q1015) hyx_J16_copyOf_3 hR (Nat.le_of_ble_eq_true rfl) (by decide) rfl rfl (Nat.zero_le _) (fun v6 => ?_)
  exact gx_aret C hQ hr (Or.inr ⟨_, rfl⟩) dJ16_copyOf_2_9
def j2_grow_2_j20 (a0 : Option Nat) (a1 a2 : Int) : PT Hp (Option Nat) :=
  pbnd (j15_newLength a2 (a1 - a2) (zshr a2 1)) fun v27 =>
  pbnd (xgR a0 26 1) fun v33 =>
  pbnd (j16_copyOf_2 v33 v27) fun v37 =>
  pbnd (xpR a0 26 1 v37) fun _ =>
  pret v37
def j2_grow_2 (a0 : Option Nat) (a1 : Int) : PT Hp (Option Nat) :=
  pbnd (xgR a0 26 1) fun v1 =>
  pbnd (xlen v1) fun v4 =>
  pite (0 < w32 v4) (
    j2_grow_2_j20 a0 a1 v4) (
    pbnd (xgR a0 26 1) fun v11 =>
    pfail)
set_option maxHeartbeats 4000000 in
set_option maxRecDepth 100000 in
theorem mj2_grow_2 (l : Launch) (g : XG) (a0 : Option Nat) (a1 : Int) : XMet l g yJ2_grow_2 cJ2_grow_2 4 (Option.some (Jvm.ClassFile.FieldType.array (Jvm.ClassFile.FieldType.object "java/lang/Object"))) (3) [rv g a0, .int (iI a1)] (j2_grow_2 a0 a1) (rvR g) := by
  refine gx_start (by decide +kernel) (by have e := lg_sl_len [rv g a0, .int (iI a1)]; simp only [List.map_cons, List.map_nil, List.sum_cons, List.sum_nil, rv_cat, cat_int, cat_long] at e; omega) (fun X Q σ0 hl C E hQ hR hr hnm => ?_)
  subst hl
  rw [show lv_args 0 [rv g a0, .int (iI a1)] = [(0, rv g a0), (1, .int (iI a1))] from by simp [lv_args, rv_cat, cat_int, cat_long]]
  show GJ X 4 (xWo g σ0 (cx_s X).heap) Q (j2_grow_2 a0 a1) 0 [(0, rv g a0), (1, .int (iI a1))] []
  have J20 : ∀ (a0 : Option Nat) (a1 a2 : Int), GJ X 4 (xWo g σ0 (cx_s X).heap) Q (j2_grow_2_j20 a0 a1 a2) 20 [(0, rv g a0), (1, .int (iI a1)), (2, .int (iI a2))] [] := by
    intro a0 a1 a2
    unfold j2_grow_2_j20
    refine gj_iload_n C dJ2_grow_2_20 2 rfl ?_
    refine gj_iload_n C dJ2_grow_2_21 1 rfl ?_
    refine gj_iload_n C dJ2_grow_2_22 2 rfl ?_
    refine gj_isub C dJ2_grow_2_23 ?_
    refine gj_iload_n C dJ2_grow_2_24 2 rfl ?_
    refine gj_iconst C dJ2_grow_2_25 ?_
    refine gj_ishr C dJ2_grow_2_26 ?_
    refine gx_callSI (As := [.int (iI a2), .int (iI ((a1 - a2))), .int (iI (zshr a2 1))]) (rest := []) C E dJ2_grow_2_27 (mj15_newLength (cx_l X) g a2 (a1 - a2) (zshr a2 1)) (lw_S q975 q739 q146 q740) hyx_J15_newLength hR (Nat.le_of_ble_eq_true rfl) (by decide) rfl rfl (Nat.zero_le _) (fun v27 => ?_)
    refine gj_istore_n (L' := [(3, _), (0, _), (1, _), (2, _)]) C dJ2_grow_2_30 (by decide) rfl ?_
    refine gx_aload_n C dJ2_grow_2_31 1 rfl ?_
    refine gx_aload_n C dJ2_grow_2_32 1 rfl ?_
    refine gx_gR (O := "java/util/ArrayList") (nm := "elementData") (ds := "[Ljava/lang/Object;") (fin := false) C E dJ2_grow_2_33 (by decide +kernel) (Or.inl q239) (fun _ h => h) (fun v33 => ?_)
    refine gj_iload_n C dJ2_grow_2_36 0 rfl ?_
    refine gx_callSR (As := [rv g v33, .int (iI v27)]) (rest := [rv g a0]) C E dJ2_grow_2_37 (mj16_copyOf_2 (cx_l X) g v33 v27) (lw_S q976 q977 q147 q978) hyx_J16_copyOf_2 hR (Nat.le_of_ble_eq_true rfl) (by decide) rfl rfl (by simp only [List.map_cons, List.map_nil, List.sum_cons, List.sum_nil, rv_cat, cat_int, cat_long]; decide) (fun v37 => ?_)
    refine gj_dup_x1 C dJ2_grow_2_40 (rv_cat _ _) (rv_cat _ _) ?_
    refine gx_pR (O := "java/util/ArrayList") (nm := "elementData") (ds := "[Ljava/lang/Object;") (fin := false) (ty := (.array (.object "java/lang/Object"))) C E dJ2_grow_2_41 (by decide +kernel) (Or.inl q239) (fun _ h => h) (fun h => by cases h) (by decide +kernel) (by decide) ?_
    exact gx_aret C hQ hr (Or.inr ⟨_, rfl⟩) dJ2_grow_2_44
  unfold j2_grow_2
  refine gx_aload_n C dJ2_grow_2_0 0 rfl ?_
  refine gx_gR (O := "java/util/ArrayList") (nm := "elementData") (ds := "[Ljava/lang/Object;") (fin := false) C E dJ2_grow_2_1 (by decide +kernel) (Or.inl q239) (fun _ h => h) (fun v1 => ?_)
  refine gx_len C E dJ2_grow_2_4 (fun v4 => ?_)
  refine gj_istore_n (L' := [(2, _), (0, _), (1, _)]) C dJ2_grow_2_5 (by decide) rfl ?_
  refine gj_iload_n C dJ2_grow_2_6 0 rfl ?_
  refine gj_if_gt (tgt := 20) C dJ2_grow_2_7 (by decide) (fun h7 => gj_pos h7 ?_) (fun h7 => gj_neg h7 ?_)
  · exact gj_to [1, 2, 0] (J20 a0 a1 v4) rfl
  · refine gx_aload_n C dJ2_grow_2_10 1 rfl ?_
    refine gx_gR (O := "java/util/ArrayList") (nm := "elementData") (ds := "[Ljava/lang/Object;") (fin := false) C E dJ2_grow_2_11 (by decide +kernel) (Or.inl q239) (fun _ h => h) (fun v11 => ?_)
    exact gj_fail
def j2_grow (a0 : Option Nat) : PT Hp (Option Nat) :=
  pbnd (xgI a0 26 2) fun v2 =>
  pbnd (xrecv a0 26) fun _ =>
  pbnd (j2_grow_2 a0 (v2 + 1)) fun v7 =>
  pret v7
set_option maxHeartbeats 4000000 in
set_option maxRecDepth 100000 in
theorem mj2_grow (l : Launch) (g : XG) (a0 : Option Nat) : XMet l g yJ2_grow cJ2_grow 1 (Option.some (Jvm.ClassFile.FieldType.array (Jvm.ClassFile.FieldType.object "java/lang/Object"))) (4) [rv g a0] (j2_grow a0) (rvR g) := by
  refine gx_start (by decide +kernel) (by have e := lg_sl_len [rv g a0]; simp only [List.map_cons, List.map_nil, List.sum_cons, List.sum_nil, rv_cat, cat_int, cat_long] at e; omega) (fun X Q σ0 hl C E hQ hR hr hnm => ?_)
  subst hl
  rw [show lv_args 0 [rv g a0] = [(0, rv g a0)] from by simp [lv_args, rv_cat, cat_int, cat_long]]
  show GJ X 1 (xWo g σ0 (cx_s X).heap) Q (j2_grow a0) 0 [(0, rv g a0)] []
  unfold j2_grow
  refine gx_aload_n C dJ2_grow_0 0 rfl ?_
  refine gx_aload_n C dJ2_grow_1 0 rfl ?_
  refine gx_gI (O := "java/util/ArrayList") (nm := "size") (ds := "I") (fin := false) C E dJ2_grow_2 (by decide +kernel) (Or.inl q240) (fun _ h => h) (fun v2 => ?_)
  refine gj_iconst C dJ2_grow_5 ?_
  refine gj_iadd C dJ2_grow_6 ?_
  refine gx_callVR (t0 := 26) (As := [.int (iI ((v2 + 1)))]) (rest := []) C E rfl dJ2_grow_7 (mj2_grow_2 (cx_l X) g a0 (v2 + 1)) (lw_V q969 q971 qs16 q130 q972) hyx_J2_grow_2 rfl hR (Nat.le_of_ble_eq_true rfl) (by decide) rfl rfl (Nat.zero_le _) (fun v7 => ?_)
  exact gx_aret C hQ hr (Or.inr ⟨_, rfl⟩) dJ2_grow_10
def j2_add_2_j11 (a0 a1 a2 : Option Nat) (a3 : Int) : PT Hp Unit :=
  pbnd (xstR a2 44 a3 a1) fun _ =>
  pbnd (xpI a0 26 2 (a3 + 1)) fun _ =>
  pret ()
def j2_add_2 (a0 a1 a2 : Option Nat) (a3 : Int) : PT Hp Unit :=
  pbnd (xlen a2) fun v2 =>
  pite (w32 a3 = w32 v2) (
    pbnd (xrecv a0 26) fun _ =>
    pbnd (j2_grow a0) fun v7 =>
    j2_add_2_j11 a0 a1 v7 a3) (
    j2_add_2_j11 a0 a1 a2 a3)
set_option maxHeartbeats 4000000 in
set_option maxRecDepth 100000 in
theorem mj2_add_2 (l : Launch) (g : XG) (a0 a1 a2 : Option Nat) (a3 : Int) : XMet l g yJ2_add_2 cJ2_add_2 4 (Option.none : Option Jvm.ClassFile.FieldType) (5) [rv g a0, rv g a1, rv g a2, .int (iI a3)] (j2_add_2 a0 a1 a2 a3) rvV := by
  refine gx_start (by decide +kernel) (by have e := lg_sl_len [rv g a0, rv g a1, rv g a2, .int (iI a3)]; simp only [List.map_cons, List.map_nil, List.sum_cons, List.sum_nil, rv_cat, cat_int, cat_long] at e; omega) (fun X Q σ0 hl C E hQ hR hr hnm => ?_)
  subst hl
  rw [show lv_args 0 [rv g a0, rv g a1, rv g a2, .int (iI a3)] = [(0, rv g a0), (1, rv g a1), (2, rv g a2), (3, .int (iI a3))] from by simp [lv_args, rv_cat, cat_int, cat_long]]
  show GJ X 4 (xWo g σ0 (cx_s X).heap) Q (j2_add_2 a0 a1 a2 a3) 0 [(0, rv g a0), (1, rv g a1), (2, rv g a2), (3, .int (iI a3))] []
  have J11 : ∀ (a0 a1 a2 : Option Nat) (a3 : Int), GJ X 4 (xWo g σ0 (cx_s X).heap) Q (j2_add_2_j11 a0 a1 a2 a3) 11 [(0, rv g a0), (1, rv g a1), (2, rv g a2), (3, .int (iI a3))] [] := by
    intro a0 a1 a2 a3
    unfold j2_add_2_j11
    refine gx_aload_n C dJ2_add_2_11 2 rfl ?_
    refine gj_iload_n C dJ2_add_2_12 3 rfl ?_
    refine gx_aload_n C dJ2_add_2_13 1 rfl ?_
    refine gx_aast (t0 := 4) C E dJ2_add_2_14 (by decide) (by decide) rfl xcast44 xelt44 ?_
    refine gx_aload_n C dJ2_add_2_15 0 rfl ?_
    refine gj_iload_n C dJ2_add_2_16 3 rfl ?_
    refine gj_iconst C dJ2_add_2_17 ?_
    refine gj_iadd C dJ2_add_2_18 ?_
    refine gx_pI (O := "java/util/ArrayList") (nm := "size") (ds := "I") (fin := false) (ty := .int) C E dJ2_add_2_19 (by decide +kernel) (Or.inl q240) (fun _ h => h) (fun h => by cases h) (by decide +kernel) (inty_int _) ?_
    exact gx_vret C hQ hr dJ2_add_2_22
  unfold j2_add_2
  refine gj_iload_n C dJ2_add_2_0 3 rfl ?_
  refine gx_aload_n C dJ2_add_2_1 2 rfl ?_
  refine gx_len C E dJ2_add_2_2 (fun v2 => ?_)
  refine gj_icmp_ne (tgt := 11) C dJ2_add_2_3 (by decide) rfl rfl (fun h3 => gj_neg h3 ?_) (fun h3 => gj_pos h3 ?_)
  · exact gj_to [0, 1, 2, 3] (J11 a0 a1 a2 a3) rfl
  · refine gx_aload_n C dJ2_add_2_6 0 rfl ?_
    refine gx_callVR (t0 := 26) (As := []) (rest := []) C E rfl dJ2_add_2_7 (mj2_grow (cx_l X) g a0) (lw_V q965 q967 qs15 q130 q968) hyx_J2_grow rfl hR (Nat.le_of_ble_eq_true rfl) (by decide) rfl rfl (Nat.zero_le _) (fun v7 => ?_)
    refine gx_astore_n (L' := [(2, rv g v7), (0, rv g a0), (1, rv g a1), (3, .int (iI a3))]) C dJ2_add_2_10 (by decide) (by simp [List.filter, rv_cat, cat_int, cat_long, fin4_3]) ?_
    exact gj_to [1, 2, 0, 3] (J11 a0 a1 v7 a3) rfl
def j2_add (a0 a1 : Option Nat) : PT Hp Int :=
  pbnd (xgI a0 26 0) fun v2 =>
  pbnd (xpI a0 26 0 (v2 + 1)) fun _ =>
  pbnd (xgR a0 26 1) fun v13 =>
  pbnd (xgI a0 26 2) fun v17 =>
  pbnd (xrecv a0 26) fun _ =>
  pbnd (j2_add_2 a0 a1 v13 v17) fun _ =>
  pbnd (pzo 1) fun _ => pret 1
set_option maxHeartbeats 4000000 in
set_option maxRecDepth 100000 in
theorem mj2_add (l : Launch) (g : XG) (a0 a1 : Option Nat) : XMet l g yJ2_add cJ2_add 2 (Option.some Jvm.ClassFile.FieldType.boolean) (6) [rv g a0, rv g a1] (j2_add a0 a1) rvI := by
  refine gx_start (by decide +kernel) (by have e := lg_sl_len [rv g a0, rv g a1]; simp only [List.map_cons, List.map_nil, List.sum_cons, List.sum_nil, rv_cat, cat_int, cat_long] at e; omega) (fun X Q σ0 hl C E hQ hR hr hnm => ?_)
  subst hl
  rw [show lv_args 0 [rv g a0, rv g a1] = [(0, rv g a0), (1, rv g a1)] from by simp [lv_args, rv_cat, cat_int, cat_long]]
  show GJ X 2 (xWo g σ0 (cx_s X).heap) Q (j2_add a0 a1) 0 [(0, rv g a0), (1, rv g a1)] []
  unfold j2_add
  refine gx_aload_n C dJ2_add_0 0 rfl ?_
  refine gx_dup C dJ2_add_1 ?_
  refine gx_gI (O := "java/util/AbstractList") (nm := "modCount") (ds := "I") (fin := false) C E dJ2_add_2 (by decide +kernel) (Or.inl q242) (fun x h => u_same (C.2.2.2.2.2 _ q243) x h) (fun v2 => ?_)
  refine gj_iconst C dJ2_add_5 ?_
  refine gj_iadd C dJ2_add_6 ?_
  refine gx_pI (O := "java/util/AbstractList") (nm := "modCount") (ds := "I") (fin := false) (ty := .int) C E dJ2_add_7 (by decide +kernel) (Or.inl q242) (fun x h => u_same (C.2.2.2.2.2 _ q243) x h) (fun h => by cases h) (by decide +kernel) (inty_int _) ?_
  refine gx_aload_n C dJ2_add_10 0 rfl ?_
  refine gx_aload_n C dJ2_add_11 1 rfl ?_
  refine gx_aload_n C dJ2_add_12 0 rfl ?_
  refine gx_gR (O := "java/util/ArrayList") (nm := "elementData") (ds := "[Ljava/lang/Object;") (fin := false) C E dJ2_add_13 (by decide +kernel) (Or.inl q239) (fun _ h => h) (fun v13 => ?_)
  refine gx_aload_n C dJ2_add_16 0 rfl ?_
  refine gx_gI (O := "java/util/ArrayList") (nm := "size") (ds := "I") (fin := false) C E dJ2_add_17 (by decide +kernel) (Or.inl q240) (fun _ h => h) (fun v17 => ?_)
  refine gx_callVV (t0 := 26) (As := [rv g a1, rv g v13, .int (iI v17)]) (rest := []) C E rfl dJ2_add_20 (mj2_add_2 (cx_l X) g a0 a1 v13 v17) (lw_V q961 q963 qs14 q130 q964) hyx_J2_add_2 rfl hR (Nat.le_of_ble_eq_true rfl) (by decide) rfl rfl (Nat.zero_le _) ?_
  refine gj_iconst C dJ2_add_23 ?_
  exact gx_zret C hQ hr dJ2_add_24
def x1_isIn (a0 a1 : Int) : PT Hp Int :=
  plet (if w32 (zand (zshr a0 a1) 1) = 1 then 1 else 0) fun v14 =>
  pbnd (pzo v14) fun _ => pret v14
set_option maxHeartbeats 4000000 in
set_option maxRecDepth 100000 in
theorem mx1_isIn (l : Launch) (g : XG) (a0 a1 : Int) : XMet l g yX1_isIn cX1_isIn 2 (Option.some Jvm.ClassFile.FieldType.boolean) (0) [.int (iI a0), .int (iI a1)] (x1_isIn a0 a1) rvI := by
  refine gx_start (by decide +kernel) (by have e := lg_sl_len [.int (iI a0), .int (iI a1)]; simp only [List.map_cons, List.map_nil, List.sum_cons, List.sum_nil, rv_cat, cat_int, cat_long] at e; omega) (fun X Q σ0 hl C E hQ hR hr hnm => ?_)
  subst hl
  show GJ X 2 (xWo g σ0 (cx_s X).heap) Q (x1_isIn a0 a1) 0 [(0, .int (iI a0)), (1, .int (iI a1))] []
  unfold x1_isIn
  refine gj_iload_n C dX1_isIn_0 0 rfl ?_
  refine gj_iload_n C dX1_isIn_1 1 rfl ?_
  refine gj_ishr C dX1_isIn_2 ?_
  refine gj_iconst C dX1_isIn_3 ?_
  refine gj_iand C dX1_isIn_4 ?_
  refine gj_iconst C dX1_isIn_5 ?_
  refine gj_dia (J := 14) (L := [(0, .int (iI a0)), (1, .int (iI a1))]) (st := []) (fun v14 => ?_) (fun t hJ => ?_)
  · skip
    exact gx_zret C hQ hr dX1_isIn_14
  · refine gj_icmp_ne (tgt := 13) (b' := 1) C dX1_isIn_6 (by decide) rfl (by decide) (fun h6 => ?_) (fun h6 => ?_)
    · refine gj_iconst C dX1_isIn_13 ?_
      exact (by rw [if_neg h6] at hJ; exact hJ)
    · refine gj_iconst C dX1_isIn_9 ?_
      refine gj_goto (tgt := 14) C dX1_isIn_10 (by decide) ?_
      exact (by rw [if_pos h6] at hJ; exact hJ)
def x2_isSign (a0 : Option Nat) (a1 : Int) : PT Hp Int :=
  pbnd (xgI a0 2 3) fun v1 =>
  pite (w32 v1 = 3) (
    pbnd (xgR a0 2 0) fun v9 =>
    pbnd (xgI a0 2 4) fun v13 =>
    pbnd (xld v9 43 v13) fun v16 =>
    pite (w32 v16 = w32 a1) (
      pbnd (pzo 1) fun _ => pret 1) (
      pbnd (pzo 0) fun _ => pret 0)) (
    pbnd (pzo 0) fun _ => pret 0)
set_option maxHeartbeats 4000000 in
set_option maxRecDepth 100000 in
theorem mx2_isSign (l : Launch) (g : XG) (a0 : Option Nat) (a1 : Int) : XMet l g yX2_isSign cX2_isSign 2 (Option.some Jvm.ClassFile.FieldType.boolean) (0) [rv g a0, .int (iI a1)] (x2_isSign a0 a1) rvI := by
  refine gx_start (by decide +kernel) (by have e := lg_sl_len [rv g a0, .int (iI a1)]; simp only [List.map_cons, List.map_nil, List.sum_cons, List.sum_nil, rv_cat, cat_int, cat_long] at e; omega) (fun X Q σ0 hl C E hQ hR hr hnm => ?_)
  subst hl
  rw [show lv_args 0 [rv g a0, .int (iI a1)] = [(0, rv g a0), (1, .int (iI a1))] from by simp [lv_args, rv_cat, cat_int, cat_long]]
  show GJ X 2 (xWo g σ0 (cx_s X).heap) Q (x2_isSign a0 a1) 0 [(0, rv g a0), (1, .int (iI a1))] []
  unfold x2_isSign
  refine gx_aload_n C dX2_isSign_0 0 rfl ?_
  refine gx_gI (O := "BorrowedLives$Reader") (nm := "kind") (ds := "I") (fin := false) C E dX2_isSign_1 (by decide +kernel) (Or.inl q191) (fun _ h => h) (fun v1 => ?_)
  refine gj_iconst C dX2_isSign_4 ?_
  refine gj_icmp_ne (tgt := 25) (b' := 3) C dX2_isSign_5 (by decide) rfl (by decide) (fun h5 => gj_neg h5 ?_) (fun h5 => gj_pos h5 ?_)
  · refine gj_iconst C dX2_isSign_25 ?_
    exact gx_zret C hQ hr dX2_isSign_26
  · refine gx_aload_n C dX2_isSign_8 0 rfl ?_
    refine gx_gR (O := "BorrowedLives$Reader") (nm := "text") (ds := "[B") (fin := false) C E dX2_isSign_9 (by decide +kernel) (Or.inl q188) (fun _ h => h) (fun v9 => ?_)
    refine gx_aload_n C dX2_isSign_12 0 rfl ?_
    refine gx_gI (O := "BorrowedLives$Reader") (nm := "from") (ds := "I") (fin := false) C E dX2_isSign_13 (by decide +kernel) (Or.inl q192) (fun _ h => h) (fun v13 => ?_)
    refine gx_bald C E dX2_isSign_16 (fun v16 => ?_)
    refine gj_iload_n C dX2_isSign_17 1 rfl ?_
    refine gj_icmp_ne (tgt := 25) C dX2_isSign_18 (by decide) rfl rfl (fun h18 => gj_neg h18 ?_) (fun h18 => gj_pos h18 ?_)
    · refine gj_iconst C dX2_isSign_25 ?_
      exact gx_zret C hQ hr dX2_isSign_26
    · refine gj_iconst C dX2_isSign_21 ?_
      refine gj_goto (tgt := 26) C dX2_isSign_22 (by decide) ?_
      exact gx_zret C hQ hr dX2_isSign_26
def x11_init (a0 : Option Nat) : PT Hp Unit :=
  pbnd (xnn a0) fun _ =>
  pret ()
set_option maxHeartbeats 4000000 in
set_option maxRecDepth 100000 in
theorem mx11_init (l : Launch) (g : XG) (a0 : Option Nat) : XMet l g yX11_init cX11_init 1 (Option.none : Option Jvm.ClassFile.FieldType) (1) [rv g a0] (x11_init a0) rvV := by
  refine gx_start (by decide +kernel) (by have e := lg_sl_len [rv g a0]; simp only [List.map_cons, List.map_nil, List.sum_cons, List.sum_nil, rv_cat, cat_int, cat_long] at e; omega) (fun X Q σ0 hl C E hQ hR hr hnm => ?_)
  subst hl
  rw [show lv_args 0 [rv g a0] = [(0, rv g a0)] from by simp [lv_args, rv_cat, cat_int, cat_long]]
  show GJ X 1 (xWo g σ0 (cx_s X).heap) Q (x11_init a0) 0 [(0, rv g a0)] []
  unfold x11_init
  refine gx_aload_n C dX11_init_0 0 rfl ?_
  refine gx_objinit C E dX11_init_1 q1065 q180 q181 hR (Nat.le_of_ble_eq_true rfl) (Nat.zero_le _) ?_
  exact gx_vret C hQ hr dX11_init_4
def x12_init (a0 : Option Nat) (a1 : Int) : PT Hp Unit :=
  pbnd (xnn a0) fun _ =>
  pbnd (x11_init a0) fun _ =>
  pbnd (xpI a0 10 0 a1) fun _ =>
  pret ()
set_option maxHeartbeats 4000000 in
set_option maxRecDepth 100000 in
theorem mx12_init (l : Launch) (g : XG) (a0 : Option Nat) (a1 : Int) : XMet l g yX12_init cX12_init 2 (Option.none : Option Jvm.ClassFile.FieldType) (2) [rv g a0, .int (iI a1)] (x12_init a0 a1) rvV := by
  refine gx_start (by decide +kernel) (by have e := lg_sl_len [rv g a0, .int (iI a1)]; simp only [List.map_cons, List.map_nil, List.sum_cons, List.sum_nil, rv_cat, cat_int, cat_long] at e; omega) (fun X Q σ0 hl C E hQ hR hr hnm => ?_)
  subst hl
  rw [show lv_args 0 [rv g a0, .int (iI a1)] = [(0, rv g a0), (1, .int (iI a1))] from by simp [lv_args, rv_cat, cat_int, cat_long]]
  show GJ X 2 (xWo g σ0 (cx_s X).heap) Q (x12_init a0 a1) 0 [(0, rv g a0), (1, .int (iI a1))] []
  unfold x12_init
  refine gx_aload_n C dX12_init_0 0 rfl ?_
  refine gx_callINV (As := []) (rest := []) C E dX12_init_1 (mx11_init (cx_l X) g a0) (lw_meth q1064) q153 q1062 q1063 rfl hyx_X11_init hR (Nat.le_of_ble_eq_true rfl) (by decide) rfl rfl (Nat.zero_le _) ?_
  refine gx_aload_n C dX12_init_4 0 rfl ?_
  refine gj_iload_n C dX12_init_5 1 rfl ?_
  refine gx_pI (O := "BorrowedLives$Given") (nm := "n") (ds := "I") (fin := true) (ty := .int) C E dX12_init_6 (by decide +kernel) (Or.inl q1066) (fun _ h => h) (fun _ => ⟨hnm, rfl⟩) (by decide +kernel) (inty_int _) ?_
  exact gx_vret C hQ hr dX12_init_9
def x13_init (a0 : Option Nat) (a1 : Int) : PT Hp Unit :=
  pbnd (xnn a0) fun _ =>
  pbnd (x11_init a0) fun _ =>
  pbnd (xpI a0 11 0 a1) fun _ =>
  pret ()
set_option maxHeartbeats 4000000 in
set_option maxRecDepth 100000 in
theorem mx13_init (l : Launch) (g : XG) (a0 : Option Nat) (a1 : Int) : XMet l g yX13_init cX13_init 2 (Option.none : Option Jvm.ClassFile.FieldType) (2) [rv g a0, .int (iI a1)] (x13_init a0 a1) rvV := by
  refine gx_start (by decide +kernel) (by have e := lg_sl_len [rv g a0, .int (iI a1)]; simp only [List.map_cons, List.map_nil, List.sum_cons, List.sum_nil, rv_cat, cat_int, cat_long] at e; omega) (fun X Q σ0 hl C E hQ hR hr hnm => ?_)
  subst hl
  rw [show lv_args 0 [rv g a0, .int (iI a1)] = [(0, rv g a0), (1, .int (iI a1))] from by simp [lv_args, rv_cat, cat_int, cat_long]]
  show GJ X 2 (xWo g σ0 (cx_s X).heap) Q (x13_init a0 a1) 0 [(0, rv g a0), (1, .int (iI a1))] []
  unfold x13_init
  refine gx_aload_n C dX13_init_0 0 rfl ?_
  refine gx_callINV (As := []) (rest := []) C E dX13_init_1 (mx11_init (cx_l X) g a0) (lw_meth q1064) q153 q1075 q1063 rfl hyx_X11_init hR (Nat.le_of_ble_eq_true rfl) (by decide) rfl rfl (Nat.zero_le _) ?_
  refine gx_aload_n C dX13_init_4 0 rfl ?_
  refine gj_iload_n C dX13_init_5 1 rfl ?_
  refine gx_pI (O := "BorrowedLives$Fact") (nm := "which") (ds := "I") (fin := true) (ty := .int) C E dX13_init_6 (by decide +kernel) (Or.inl q1076) (fun _ h => h) (fun _ => ⟨hnm, rfl⟩) (by decide +kernel) (inty_int _) ?_
  exact gx_vret C hQ hr dX13_init_9
def x14_init (a0 a1 : Option Nat) : PT Hp Unit :=
  pbnd (xnn a0) fun _ =>
  pbnd (x11_init a0) fun _ =>
  pbnd (xpR a0 12 0 a1) fun _ =>
  pret ()
set_option maxHeartbeats 4000000 in
set_option maxRecDepth 100000 in
theorem mx14_init (l : Launch) (g : XG) (a0 a1 : Option Nat) : XMet l g yX14_init cX14_init 2 (Option.none : Option Jvm.ClassFile.FieldType) (2) [rv g a0, rv g a1] (x14_init a0 a1) rvV := by
  refine gx_start (by decide +kernel) (by have e := lg_sl_len [rv g a0, rv g a1]; simp only [List.map_cons, List.map_nil, List.sum_cons, List.sum_nil, rv_cat, cat_int, cat_long] at e; omega) (fun X Q σ0 hl C E hQ hR hr hnm => ?_)
  subst hl
  rw [show lv_args 0 [rv g a0, rv g a1] = [(0, rv g a0), (1, rv g a1)] from by simp [lv_args, rv_cat, cat_int, cat_long]]
  show GJ X 2 (xWo g σ0 (cx_s X).heap) Q (x14_init a0 a1) 0 [(0, rv g a0), (1, rv g a1)] []
  unfold x14_init
  refine gx_aload_n C dX14_init_0 0 rfl ?_
  refine gx_callINV (As := []) (rest := []) C E dX14_init_1 (mx11_init (cx_l X) g a0) (lw_meth q1064) q153 q1085 q1063 rfl hyx_X11_init hR (Nat.le_of_ble_eq_true rfl) (by decide) rfl rfl (Nat.zero_le _) ?_
  refine gx_aload_n C dX14_init_4 0 rfl ?_
  refine gx_aload_n C dX14_init_5 1 rfl ?_
  refine gx_pR (O := "BorrowedLives$Not") (nm := "part") (ds := "LBorrowedLives$Expression;") (fin := true) (ty := (.object "BorrowedLives$Expression")) C E dX14_init_6 (by decide +kernel) (Or.inl q1086) (fun _ h => h) (fun _ => ⟨hnm, rfl⟩) (by decide +kernel) (by decide) ?_
  exact gx_vret C hQ hr dX14_init_9
def x15_init (a0 : Option Nat) (a1 : Int) (a2 a3 : Option Nat) : PT Hp Unit :=
  pbnd (xnn a0) fun _ =>
  pbnd (x11_init a0) fun _ =>
  pbnd (pzc a1) fun _ =>
  pbnd (xpI a0 13 0 a1) fun _ =>
  pbnd (xpR a0 13 1 a2) fun _ =>
  pbnd (xpR a0 13 2 a3) fun _ =>
  pret ()
set_option maxHeartbeats 4000000 in
set_option maxRecDepth 100000 in
theorem mx15_init (l : Launch) (g : XG) (a0 : Option Nat) (a1 : Int) (a2 a3 : Option Nat) : XMet l g yX15_init cX15_init 4 (Option.none : Option Jvm.ClassFile.FieldType) (2) [rv g a0, .int (iI a1), rv g a2, rv g a3] (x15_init a0 a1 a2 a3) rvV := by
  refine gx_start (by decide +kernel) (by have e := lg_sl_len [rv g a0, .int (iI a1), rv g a2, rv g a3]; simp only [List.map_cons, List.map_nil, List.sum_cons, List.sum_nil, rv_cat, cat_int, cat_long] at e; omega) (fun X Q σ0 hl C E hQ hR hr hnm => ?_)
  subst hl
  rw [show lv_args 0 [rv g a0, .int (iI a1), rv g a2, rv g a3] = [(0, rv g a0), (1, .int (iI a1)), (2, rv g a2), (3, rv g a3)] from by simp [lv_args, rv_cat, cat_int, cat_long]]
  show GJ X 4 (xWo g σ0 (cx_s X).heap) Q (x15_init a0 a1 a2 a3) 0 [(0, rv g a0), (1, .int (iI a1)), (2, rv g a2), (3, rv g a3)] []
  unfold x15_init
  refine gx_aload_n C dX15_init_0 0 rfl ?_
  refine gx_callINV (As := []) (rest := []) C E dX15_init_1 (mx11_init (cx_l X) g a0) (lw_meth q1064) q153 q1099 q1063 rfl hyx_X11_init hR (Nat.le_of_ble_eq_true rfl) (by decide) rfl rfl (Nat.zero_le _) ?_
  refine gx_aload_n C dX15_init_4 0 rfl ?_
  refine gj_iload_n C dX15_init_5 1 rfl ?_
  refine gx_pzc (fun hz6 => ?_)
  refine gx_pI (O := "BorrowedLives$Two") (nm := "way") (ds := "C") (fin := true) (ty := .char) C E dX15_init_6 (by decide +kernel) (Or.inl q1100) (fun _ h => h) (fun _ => ⟨hnm, rfl⟩) (by decide +kernel) (inty_c hz6) ?_
  refine gx_aload_n C dX15_init_9 0 rfl ?_
  refine gx_aload_n C dX15_init_10 2 rfl ?_
  refine gx_pR (O := "BorrowedLives$Two") (nm := "a") (ds := "LBorrowedLives$Expression;") (fin := true) (ty := (.object "BorrowedLives$Expression")) C E dX15_init_11 (by decide +kernel) (Or.inl q1101) (fun _ h => h) (fun _ => ⟨hnm, rfl⟩) (by decide +kernel) (by decide) ?_
  refine gx_aload_n C dX15_init_14 0 rfl ?_
  refine gx_aload_n C dX15_init_15 3 rfl ?_
  refine gx_pR (O := "BorrowedLives$Two") (nm := "b") (ds := "LBorrowedLives$Expression;") (fin := true) (ty := (.object "BorrowedLives$Expression")) C E dX15_init_16 (by decide +kernel) (Or.inl q1102) (fun _ h => h) (fun _ => ⟨hnm, rfl⟩) (by decide +kernel) (by decide) ?_
  exact gx_vret C hQ hr dX15_init_19
def x16_init (a0 : Option Nat) : PT Hp Unit :=
  pbnd (xnn a0) fun _ =>
  pret ()
set_option maxHeartbeats 4000000 in
set_option maxRecDepth 100000 in
theorem mx16_init (l : Launch) (g : XG) (a0 : Option Nat) : XMet l g yX16_init cX16_init 1 (Option.none : Option Jvm.ClassFile.FieldType) (1) [rv g a0] (x16_init a0) rvV := by
  refine gx_start (by decide +kernel) (by have e := lg_sl_len [rv g a0]; simp only [List.map_cons, List.map_nil, List.sum_cons, List.sum_nil, rv_cat, cat_int, cat_long] at e; omega) (fun X Q σ0 hl C E hQ hR hr hnm => ?_)
  subst hl
  rw [show lv_args 0 [rv g a0] = [(0, rv g a0)] from by simp [lv_args, rv_cat, cat_int, cat_long]]
  show GJ X 1 (xWo g σ0 (cx_s X).heap) Q (x16_init a0) 0 [(0, rv g a0)] []
  unfold x16_init
  refine gx_aload_n C dX16_init_0 0 rfl ?_
  refine gx_objinit C E dX16_init_1 q1135 q180 q181 hR (Nat.le_of_ble_eq_true rfl) (Nat.zero_le _) ?_
  exact gx_vret C hQ hr dX16_init_4
def x17_init (a0 : Option Nat) (a1 : Int) : PT Hp Unit :=
  pbnd (xnn a0) fun _ =>
  pbnd (x16_init a0) fun _ =>
  pbnd (xpI a0 14 0 a1) fun _ =>
  pret ()
set_option maxHeartbeats 4000000 in
set_option maxRecDepth 100000 in
theorem mx17_init (l : Launch) (g : XG) (a0 : Option Nat) (a1 : Int) : XMet l g yX17_init cX17_init 2 (Option.none : Option Jvm.ClassFile.FieldType) (2) [rv g a0, .int (iI a1)] (x17_init a0 a1) rvV := by
  refine gx_start (by decide +kernel) (by have e := lg_sl_len [rv g a0, .int (iI a1)]; simp only [List.map_cons, List.map_nil, List.sum_cons, List.sum_nil, rv_cat, cat_int, cat_long] at e; omega) (fun X Q σ0 hl C E hQ hR hr hnm => ?_)
  subst hl
  rw [show lv_args 0 [rv g a0, .int (iI a1)] = [(0, rv g a0), (1, .int (iI a1))] from by simp [lv_args, rv_cat, cat_int, cat_long]]
  show GJ X 2 (xWo g σ0 (cx_s X).heap) Q (x17_init a0 a1) 0 [(0, rv g a0), (1, .int (iI a1))] []
  unfold x17_init
  refine gx_aload_n C dX17_init_0 0 rfl ?_
  refine gx_callINV (As := []) (rest := []) C E dX17_init_1 (mx16_init (cx_l X) g a0) (lw_meth q1134) q158 q1132 q1133 rfl hyx_X16_init hR (Nat.le_of_ble_eq_true rfl) (by decide) rfl rfl (Nat.zero_le _) ?_
  refine gx_aload_n C dX17_init_4 0 rfl ?_
  refine gj_iload_n C dX17_init_5 1 rfl ?_
  refine gx_pI (O := "BorrowedLives$Drawn") (nm := "seed") (ds := "I") (fin := true) (ty := .int) C E dX17_init_6 (by decide +kernel) (Or.inl q1136) (fun _ h => h) (fun _ => ⟨hnm, rfl⟩) (by decide +kernel) (inty_int _) ?_
  exact gx_vret C hQ hr dX17_init_9
def x18_init (a0 : Option Nat) : PT Hp Unit :=
  pbnd (xnn a0) fun _ =>
  pbnd (x16_init a0) fun _ =>
  pret ()
set_option maxHeartbeats 4000000 in
set_option maxRecDepth 100000 in
theorem mx18_init (l : Launch) (g : XG) (a0 : Option Nat) : XMet l g yX18_init cX18_init 1 (Option.none : Option Jvm.ClassFile.FieldType) (2) [rv g a0] (x18_init a0) rvV := by
  refine gx_start (by decide +kernel) (by have e := lg_sl_len [rv g a0]; simp only [List.map_cons, List.map_nil, List.sum_cons, List.sum_nil, rv_cat, cat_int, cat_long] at e; omega) (fun X Q σ0 hl C E hQ hR hr hnm => ?_)
  subst hl
  rw [show lv_args 0 [rv g a0] = [(0, rv g a0)] from by simp [lv_args, rv_cat, cat_int, cat_long]]
  show GJ X 1 (xWo g σ0 (cx_s X).heap) Q (x18_init a0) 0 [(0, rv g a0)] []
  unfold x18_init
  refine gx_aload_n C dX18_init_0 0 rfl ?_
  refine gx_callINV (As := []) (rest := []) C E dX18_init_1 (mx16_init (cx_l X) g a0) (lw_meth q1134) q158 q1145 q1133 rfl hyx_X16_init hR (Nat.le_of_ble_eq_true rfl) (by decide) rfl rfl (Nat.zero_le _) ?_
  exact gx_vret C hQ hr dX18_init_4
def x19_init (a0 : Option Nat) : PT Hp Unit :=
  pbnd (xnn a0) fun _ =>
  pbnd (x16_init a0) fun _ =>
  pret ()
set_option maxHeartbeats 4000000 in
set_option maxRecDepth 100000 in
theorem mx19_init (l : Launch) (g : XG) (a0 : Option Nat) : XMet l g yX19_init cX19_init 1 (Option.none : Option Jvm.ClassFile.FieldType) (2) [rv g a0] (x19_init a0) rvV := by
  refine gx_start (by decide +kernel) (by have e := lg_sl_len [rv g a0]; simp only [List.map_cons, List.map_nil, List.sum_cons, List.sum_nil, rv_cat, cat_int, cat_long] at e; omega) (fun X Q σ0 hl C E hQ hR hr hnm => ?_)
  subst hl
  rw [show lv_args 0 [rv g a0] = [(0, rv g a0)] from by simp [lv_args, rv_cat, cat_int, cat_long]]
  show GJ X 1 (xWo g σ0 (cx_s X).heap) Q (x19_init a0) 0 [(0, rv g a0)] []
  unfold x19_init
  refine gx_aload_n C dX19_init_0 0 rfl ?_
  refine gx_callINV (As := []) (rest := []) C E dX19_init_1 (mx16_init (cx_l X) g a0) (lw_meth q1134) q158 q1152 q1133 rfl hyx_X16_init hR (Nat.le_of_ble_eq_true rfl) (by decide) rfl rfl (Nat.zero_le _) ?_
  exact gx_vret C hQ hr dX19_init_4
def x20_init (a0 : Option Nat) (a1 a2 : Int) : PT Hp Unit :=
  pbnd (xnn a0) fun _ =>
  pbnd (x16_init a0) fun _ =>
  pbnd (xpI a0 17 0 a1) fun _ =>
  pbnd (xpI a0 17 1 a2) fun _ =>
  pret ()
set_option maxHeartbeats 4000000 in
set_option maxRecDepth 100000 in
theorem mx20_init (l : Launch) (g : XG) (a0 : Option Nat) (a1 a2 : Int) : XMet l g yX20_init cX20_init 3 (Option.none : Option Jvm.ClassFile.FieldType) (2) [rv g a0, .int (iI a1), .int (iI a2)] (x20_init a0 a1 a2) rvV := by
  refine gx_start (by decide +kernel) (by have e := lg_sl_len [rv g a0, .int (iI a1), .int (iI a2)]; simp only [List.map_cons, List.map_nil, List.sum_cons, List.sum_nil, rv_cat, cat_int, cat_long] at e; omega) (fun X Q σ0 hl C E hQ hR hr hnm => ?_)
  subst hl
  rw [show lv_args 0 [rv g a0, .int (iI a1), .int (iI a2)] = [(0, rv g a0), (1, .int (iI a1)), (2, .int (iI a2))] from by simp [lv_args, rv_cat, cat_int, cat_long]]
  show GJ X 3 (xWo g σ0 (cx_s X).heap) Q (x20_init a0 a1 a2) 0 [(0, rv g a0), (1, .int (iI a1)), (2, .int (iI a2))] []
  unfold x20_init
  refine gx_aload_n C dX20_init_0 0 rfl ?_
  refine gx_callINV (As := []) (rest := []) C E dX20_init_1 (mx16_init (cx_l X) g a0) (lw_meth q1134) q158 q1159 q1133 rfl hyx_X16_init hR (Nat.le_of_ble_eq_true rfl) (by decide) rfl rfl (Nat.zero_le _) ?_
  refine gx_aload_n C dX20_init_4 0 rfl ?_
  refine gj_iload_n C dX20_init_5 1 rfl ?_
  refine gx_pI (O := "BorrowedLives$Hidden") (nm := "life") (ds := "I") (fin := true) (ty := .int) C E dX20_init_6 (by decide +kernel) (Or.inl q1160) (fun _ h => h) (fun _ => ⟨hnm, rfl⟩) (by decide +kernel) (inty_int _) ?_
  refine gx_aload_n C dX20_init_9 0 rfl ?_
  refine gj_iload_n C dX20_init_10 2 rfl ?_
  refine gx_pI (O := "BorrowedLives$Hidden") (nm := "coins") (ds := "I") (fin := true) (ty := .int) C E dX20_init_11 (by decide +kernel) (Or.inl q1161) (fun _ h => h) (fun _ => ⟨hnm, rfl⟩) (by decide +kernel) (inty_int _) ?_
  exact gx_vret C hQ hr dX20_init_14
def x21_init (a0 : Option Nat) (a1 a2 : Int) : PT Hp Unit :=
  pbnd (xnn a0) fun _ =>
  pbnd (x16_init a0) fun _ =>
  pbnd (xpI a0 18 0 a1) fun _ =>
  pbnd (xpI a0 18 1 a2) fun _ =>
  pret ()
set_option maxHeartbeats 4000000 in
set_option maxRecDepth 100000 in
theorem mx21_init (l : Launch) (g : XG) (a0 : Option Nat) (a1 a2 : Int) : XMet l g yX21_init cX21_init 3 (Option.none : Option Jvm.ClassFile.FieldType) (2) [rv g a0, .int (iI a1), .int (iI a2)] (x21_init a0 a1 a2) rvV := by
  refine gx_start (by decide +kernel) (by have e := lg_sl_len [rv g a0, .int (iI a1), .int (iI a2)]; simp only [List.map_cons, List.map_nil, List.sum_cons, List.sum_nil, rv_cat, cat_int, cat_long] at e; omega) (fun X Q σ0 hl C E hQ hR hr hnm => ?_)
  subst hl
  rw [show lv_args 0 [rv g a0, .int (iI a1), .int (iI a2)] = [(0, rv g a0), (1, .int (iI a1)), (2, .int (iI a2))] from by simp [lv_args, rv_cat, cat_int, cat_long]]
  show GJ X 3 (xWo g σ0 (cx_s X).heap) Q (x21_init a0 a1 a2) 0 [(0, rv g a0), (1, .int (iI a1)), (2, .int (iI a2))] []
  unfold x21_init
  refine gx_aload_n C dX21_init_0 0 rfl ?_
  refine gx_callINV (As := []) (rest := []) C E dX21_init_1 (mx16_init (cx_l X) g a0) (lw_meth q1134) q158 q1176 q1133 rfl hyx_X16_init hR (Nat.le_of_ble_eq_true rfl) (by decide) rfl rfl (Nat.zero_le _) ?_
  refine gx_aload_n C dX21_init_4 0 rfl ?_
  refine gj_iload_n C dX21_init_5 1 rfl ?_
  refine gx_pI (O := "BorrowedLives$Swapped") (nm := "one") (ds := "I") (fin := true) (ty := .int) C E dX21_init_6 (by decide +kernel) (Or.inl q1177) (fun _ h => h) (fun _ => ⟨hnm, rfl⟩) (by decide +kernel) (inty_int _) ?_
  refine gx_aload_n C dX21_init_9 0 rfl ?_
  refine gj_iload_n C dX21_init_10 2 rfl ?_
  refine gx_pI (O := "BorrowedLives$Swapped") (nm := "other") (ds := "I") (fin := true) (ty := .int) C E dX21_init_11 (by decide +kernel) (Or.inl q1178) (fun _ h => h) (fun _ => ⟨hnm, rfl⟩) (by decide +kernel) (inty_int _) ?_
  exact gx_vret C hQ hr dX21_init_14
def x1_people (a0 : Option Nat) : PT Hp Int :=
  pbnd (xgR a0 1 2) fun v1 =>
  pbnd (xgR v1 3 0) fun v4 =>
  pbnd (xrecv v4 26) fun _ =>
  pbnd (j2_size v4) fun v7 =>
  pret v7
set_option maxHeartbeats 4000000 in
set_option maxRecDepth 100000 in
theorem mx1_people (l : Launch) (g : XG) (a0 : Option Nat) : XMet l g yX1_people cX1_people 1 (Option.some Jvm.ClassFile.FieldType.int) (1) [rv g a0] (x1_people a0) rvI := by
  refine gx_start (by decide +kernel) (by have e := lg_sl_len [rv g a0]; simp only [List.map_cons, List.map_nil, List.sum_cons, List.sum_nil, rv_cat, cat_int, cat_long] at e; omega) (fun X Q σ0 hl C E hQ hR hr hnm => ?_)
  subst hl
  rw [show lv_args 0 [rv g a0] = [(0, rv g a0)] from by simp [lv_args, rv_cat, cat_int, cat_long]]
  show GJ X 1 (xWo g σ0 (cx_s X).heap) Q (x1_people a0) 0 [(0, rv g a0)] []
  unfold x1_people
  refine gx_aload_n C dX1_people_0 0 rfl ?_
  refine gx_gR (O := "BorrowedLives") (nm := "town") (ds := "LBorrowedLives$Town;") (fin := false) C E dX1_people_1 (by decide +kernel) (Or.inl q377) (fun _ h => h) (fun v1 => ?_)
  refine gx_gR (O := "BorrowedLives$Town") (nm := "people") (ds := "Ljava/util/ArrayList;") (fin := true) C E dX1_people_4 (by decide +kernel) (Or.inr ⟨_, q253⟩) (fun _ h => h) (fun v4 => ?_)
  refine gx_callVI (t0 := 26) (As := []) (rest := []) C E rfl dX1_people_7 (mj2_size (cx_l X) g v4) (lw_V q1196 q351 q352 q130 q353) hyx_J2_size rfl hR (Nat.le_of_ble_eq_true rfl) (by decide) rfl rfl (Nat.zero_le _) (fun v7 => ?_)
  exact gx_iret C hQ hr dX1_people_10
def x1_in (a0 a1 a2 : Int) : PT Hp Int :=
  plet (if w32 a0 < w32 a1 then 0 else if w32 a2 < w32 a0 then 0 else 1) fun v15 =>
  pbnd (pzo v15) fun _ => pret v15
set_option maxHeartbeats 4000000 in
set_option maxRecDepth 100000 in
theorem mx1_in (l : Launch) (g : XG) (a0 a1 a2 : Int) : XMet l g yX1_in cX1_in 3 (Option.some Jvm.ClassFile.FieldType.boolean) (0) [.int (iI a0), .int (iI a1), .int (iI a2)] (x1_in a0 a1 a2) rvI := by
  refine gx_start (by decide +kernel) (by have e := lg_sl_len [.int (iI a0), .int (iI a1), .int (iI a2)]; simp only [List.map_cons, List.map_nil, List.sum_cons, List.sum_nil, rv_cat, cat_int, cat_long] at e; omega) (fun X Q σ0 hl C E hQ hR hr hnm => ?_)
  subst hl
  show GJ X 3 (xWo g σ0 (cx_s X).heap) Q (x1_in a0 a1 a2) 0 [(0, .int (iI a0)), (1, .int (iI a1)), (2, .int (iI a2))] []
  unfold x1_in
  refine gj_iload_n C dX1_in_0 0 rfl ?_
  refine gj_iload_n C dX1_in_1 1 rfl ?_
  refine gj_dia (J := 15) (L := [(0, .int (iI a0)), (1, .int (iI a1)), (2, .int (iI a2))]) (st := []) (fun v15 => ?_) (fun t hJ => ?_)
  · skip
    exact gx_zret C hQ hr dX1_in_15
  · refine gj_icmp_lt (tgt := 14) C dX1_in_2 (by decide) rfl rfl (fun h2 => ?_) (fun h2 => ?_)
    · refine gj_iconst C dX1_in_14 ?_
      exact (by rw [if_pos h2] at hJ; exact hJ)
    · refine gj_iload_n C dX1_in_5 0 rfl ?_
      refine gj_iload_n C dX1_in_6 2 rfl ?_
      refine gj_icmp_gt (tgt := 14) C dX1_in_7 (by decide) rfl rfl (fun h7 => ?_) (fun h7 => ?_)
      · refine gj_iconst C dX1_in_14 ?_
        exact (by rw [if_neg h2, if_pos h7] at hJ; exact hJ)
      · refine gj_iconst C dX1_in_10 ?_
        refine gj_goto (tgt := 15) C dX1_in_11 (by decide) ?_
        exact (by rw [if_neg h2, if_neg h7] at hJ; exact hJ)
def x1_isPerson (a0 : Option Nat) (a1 : Int) : PT Hp Int :=
  pbnd (xrecv a0 1) fun _ =>
  pbnd (x1_people a0) fun v3 =>
  pbnd (x1_in a1 0 (v3 - 1)) fun v8 =>
  pbnd (pzo v8) fun _ => pret v8
set_option maxHeartbeats 4000000 in
set_option maxRecDepth 100000 in
theorem mx1_isPerson (l : Launch) (g : XG) (a0 : Option Nat) (a1 : Int) : XMet l g yX1_isPerson cX1_isPerson 2 (Option.some Jvm.ClassFile.FieldType.boolean) (2) [rv g a0, .int (iI a1)] (x1_isPerson a0 a1) rvI := by
  refine gx_start (by decide +kernel) (by have e := lg_sl_len [rv g a0, .int (iI a1)]; simp only [List.map_cons, List.map_nil, List.sum_cons, List.sum_nil, rv_cat, cat_int, cat_long] at e; omega) (fun X Q σ0 hl C E hQ hR hr hnm => ?_)
  subst hl
  rw [show lv_args 0 [rv g a0, .int (iI a1)] = [(0, rv g a0), (1, .int (iI a1))] from by simp [lv_args, rv_cat, cat_int, cat_long]]
  show GJ X 2 (xWo g σ0 (cx_s X).heap) Q (x1_isPerson a0 a1) 0 [(0, rv g a0), (1, .int (iI a1))] []
  unfold x1_isPerson
  refine gj_iload_n C dX1_isPerson_0 1 rfl ?_
  refine gj_iconst C dX1_isPerson_1 ?_
  refine gx_aload_n C dX1_isPerson_2 0 rfl ?_
  refine gx_callVI (t0 := 1) (As := []) (rest := [.int (iI 0), .int (iI a1)]) C E rfl dX1_isPerson_3 (mx1_people (cx_l X) g a0) (lw_V q1192 q1194 qs29 q125 q1195) hyx_X1_people rfl hR (Nat.le_of_ble_eq_true rfl) (by decide) rfl rfl (Nat.le_of_ble_eq_true rfl) (fun v3 => ?_)
  refine gj_iconst C dX1_isPerson_6 ?_
  refine gj_isub C dX1_isPerson_7 ?_
  refine gx_callSI (As := [.int (iI a1), .int (iI 0), .int (iI ((v3 - 1)))]) (rest := []) C E dX1_isPerson_8 (mx1_in (cx_l X) g a1 0 (v3 - 1)) (lw_S q1197 q1198 q125 q1199) hyx_X1_in hR (Nat.le_of_ble_eq_true rfl) (by decide) rfl rfl (Nat.zero_le _) (fun v8 => ?_)
  exact gx_zret C hQ hr dX1_isPerson_11
def x1_person_2 (a0 : Option Nat) (a1 : Int) : PT Hp (Option Nat) :=
  pbnd (xgR a0 1 2) fun v1 =>
  pbnd (xgR v1 3 0) fun v4 =>
  pbnd (xrecv v4 26) fun _ =>
  pbnd (j2_get v4 a1) fun v8 =>
  pbnd (xcast v8 [6, 7, 8, 9]) fun _ =>
  pret v8
set_option maxHeartbeats 4000000 in
set_option maxRecDepth 100000 in
theorem mx1_person_2 (l : Launch) (g : XG) (a0 : Option Nat) (a1 : Int) : XMet l g yX1_person_2 cX1_person_2 2 (Option.some (Jvm.ClassFile.FieldType.object "BorrowedLives$Person")) (3) [rv g a0, .int (iI a1)] (x1_person_2 a0 a1) (rvR g) := by
  refine gx_start (by decide +kernel) (by have e := lg_sl_len [rv g a0, .int (iI a1)]; simp only [List.map_cons, List.map_nil, List.sum_cons, List.sum_nil, rv_cat, cat_int, cat_long] at e; omega) (fun X Q σ0 hl C E hQ hR hr hnm => ?_)
  subst hl
  rw [show lv_args 0 [rv g a0, .int (iI a1)] = [(0, rv g a0), (1, .int (iI a1))] from by simp [lv_args, rv_cat, cat_int, cat_long]]
  show GJ X 2 (xWo g σ0 (cx_s X).heap) Q (x1_person_2 a0 a1) 0 [(0, rv g a0), (1, .int (iI a1))] []
  unfold x1_person_2
  refine gx_aload_n C dX1_person_2_0 0 rfl ?_
  refine gx_gR (O := "BorrowedLives") (nm := "town") (ds := "LBorrowedLives$Town;") (fin := false) C E dX1_person_2_1 (by decide +kernel) (Or.inl q377) (fun _ h => h) (fun v1 => ?_)
  refine gx_gR (O := "BorrowedLives$Town") (nm := "people") (ds := "Ljava/util/ArrayList;") (fin := true) C E dX1_person_2_4 (by decide +kernel) (Or.inr ⟨_, q253⟩) (fun _ h => h) (fun v4 => ?_)
  refine gj_iload_n C dX1_person_2_7 1 rfl ?_
  refine gx_callVR (t0 := 26) (As := [.int (iI a1)]) (rest := []) C E rfl dX1_person_2_8 (mj2_get (cx_l X) g v4 a1) (lw_V q1204 q355 q356 q130 q357) hyx_J2_get rfl hR (Nat.le_of_ble_eq_true rfl) (by decide) rfl rfl (Nat.zero_le _) (fun v8 => ?_)
  refine gx_cast C E dX1_person_2_11 q1205 xc_BorrowedLives_Person ?_
  exact gx_aret C hQ hr (Or.inl ⟨_, rfl⟩) dX1_person_2_14
def x10_kind (a0 : Option Nat) : PT Hp Int :=
  pret 3
set_option maxHeartbeats 4000000 in
set_option maxRecDepth 100000 in
theorem mx10_kind (l : Launch) (g : XG) (a0 : Option Nat) : XMet l g yX10_kind cX10_kind 1 (Option.some Jvm.ClassFile.FieldType.int) (0) [rv g a0] (x10_kind a0) rvI := by
  refine gx_start (by decide +kernel) (by have e := lg_sl_len [rv g a0]; simp only [List.map_cons, List.map_nil, List.sum_cons, List.sum_nil, rv_cat, cat_int, cat_long] at e; omega) (fun X Q σ0 hl C E hQ hR hr hnm => ?_)
  subst hl
  rw [show lv_args 0 [rv g a0] = [(0, rv g a0)] from by simp [lv_args, rv_cat, cat_int, cat_long]]
  show GJ X 1 (xWo g σ0 (cx_s X).heap) Q (x10_kind a0) 0 [(0, rv g a0)] []
  unfold x10_kind
  refine gj_iconst C dX10_kind_0 ?_
  exact gx_iret C hQ hr dX10_kind_1
def x7_kind (a0 : Option Nat) : PT Hp Int :=
  pret 0
set_option maxHeartbeats 4000000 in
set_option maxRecDepth 100000 in
theorem mx7_kind (l : Launch) (g : XG) (a0 : Option Nat) : XMet l g yX7_kind cX7_kind 1 (Option.some Jvm.ClassFile.FieldType.int) (0) [rv g a0] (x7_kind a0) rvI := by
  refine gx_start (by decide +kernel) (by have e := lg_sl_len [rv g a0]; simp only [List.map_cons, List.map_nil, List.sum_cons, List.sum_nil, rv_cat, cat_int, cat_long] at e; omega) (fun X Q σ0 hl C E hQ hR hr hnm => ?_)
  subst hl
  rw [show lv_args 0 [rv g a0] = [(0, rv g a0)] from by simp [lv_args, rv_cat, cat_int, cat_long]]
  show GJ X 1 (xWo g σ0 (cx_s X).heap) Q (x7_kind a0) 0 [(0, rv g a0)] []
  unfold x7_kind
  refine gj_iconst C dX7_kind_0 ?_
  exact gx_iret C hQ hr dX7_kind_1
def x8_kind (a0 : Option Nat) : PT Hp Int :=
  pret 1
set_option maxHeartbeats 4000000 in
set_option maxRecDepth 100000 in
theorem mx8_kind (l : Launch) (g : XG) (a0 : Option Nat) : XMet l g yX8_kind cX8_kind 1 (Option.some Jvm.ClassFile.FieldType.int) (0) [rv g a0] (x8_kind a0) rvI := by
  refine gx_start (by decide +kernel) (by have e := lg_sl_len [rv g a0]; simp only [List.map_cons, List.map_nil, List.sum_cons, List.sum_nil, rv_cat, cat_int, cat_long] at e; omega) (fun X Q σ0 hl C E hQ hR hr hnm => ?_)
  subst hl
  rw [show lv_args 0 [rv g a0] = [(0, rv g a0)] from by simp [lv_args, rv_cat, cat_int, cat_long]]
  show GJ X 1 (xWo g σ0 (cx_s X).heap) Q (x8_kind a0) 0 [(0, rv g a0)] []
  unfold x8_kind
  refine gj_iconst C dX8_kind_0 ?_
  exact gx_iret C hQ hr dX8_kind_1
def x9_kind (a0 : Option Nat) : PT Hp Int :=
  pret 2
set_option maxHeartbeats 4000000 in
set_option maxRecDepth 100000 in
theorem mx9_kind (l : Launch) (g : XG) (a0 : Option Nat) : XMet l g yX9_kind cX9_kind 1 (Option.some Jvm.ClassFile.FieldType.int) (0) [rv g a0] (x9_kind a0) rvI := by
  refine gx_start (by decide +kernel) (by have e := lg_sl_len [rv g a0]; simp only [List.map_cons, List.map_nil, List.sum_cons, List.sum_nil, rv_cat, cat_int, cat_long] at e; omega) (fun X Q σ0 hl C E hQ hR hr hnm => ?_)
  subst hl
  rw [show lv_args 0 [rv g a0] = [(0, rv g a0)] from by simp [lv_args, rv_cat, cat_int, cat_long]]
  show GJ X 1 (xWo g σ0 (cx_s X).heap) Q (x9_kind a0) 0 [(0, rv g a0)] []
  unfold x9_kind
  refine gj_iconst C dX9_kind_0 ?_
  exact gx_iret C hQ hr dX9_kind_1
def x4_lifeOf_b2 (a0 : Option Nat) (a1 : Int) (a2 : Int) (bk2 : (Int) → PT Hp Int) : PT Hp Int :=
  pite (w32 a2 < 6) (
    pbnd (xgR a0 4 6) fun v9 =>
    pbnd (xld v9 40 a2) fun v13 =>
    pite (w32 v13 = w32 a1) (
      pret a2) (
      bk2 (a2 + 1))) (
    pret (-1))
def x4_lifeOf_l2 (a0 : Option Nat) (a1 a2 : Int) : PT Hp Int :=
  ploop (fun (s : (Int)) bk2 => x4_lifeOf_b2 a0 a1 s bk2) (a2)
def x4_lifeOf (a0 : Option Nat) (a1 : Int) : PT Hp Int :=
  x4_lifeOf_l2 a0 a1 0
set_option maxHeartbeats 4000000 in
set_option maxRecDepth 100000 in
theorem mx4_lifeOf (l : Launch) (g : XG) (a0 : Option Nat) (a1 : Int) : XMet l g yX4_lifeOf cX4_lifeOf 3 (Option.some Jvm.ClassFile.FieldType.int) (0) [rv g a0, .int (iI a1)] (x4_lifeOf a0 a1) rvI := by
  refine gx_start (by decide +kernel) (by have e := lg_sl_len [rv g a0, .int (iI a1)]; simp only [List.map_cons, List.map_nil, List.sum_cons, List.sum_nil, rv_cat, cat_int, cat_long] at e; omega) (fun X Q σ0 hl C E hQ hR hr hnm => ?_)
  subst hl
  rw [show lv_args 0 [rv g a0, .int (iI a1)] = [(0, rv g a0), (1, .int (iI a1))] from by simp [lv_args, rv_cat, cat_int, cat_long]]
  show GJ X 3 (xWo g σ0 (cx_s X).heap) Q (x4_lifeOf a0 a1) 0 [(0, rv g a0), (1, .int (iI a1))] []
  have J2 : ∀ (a0 : Option Nat) (a1 a2 : Int), GJ X 3 (xWo g σ0 (cx_s X).heap) Q (x4_lifeOf_l2 a0 a1 a2) 2 [(0, rv g a0), (1, .int (iI a1)), (2, .int (iI a2))] [] := by
    intro a0 a1 a2
    unfold x4_lifeOf_l2
    refine gj_loop (fun (s : (Int)) => [(0, rv g a0), (1, .int (iI a1)), (2, .int (iI s))]) (a2) (fun bk2 hb2 s => ?_)
    obtain ⟨a2, rfl⟩ : ∃ z, z = s := ⟨s, rfl⟩
    show GJ X 3 (xWo g σ0 (cx_s X).heap) Q (x4_lifeOf_b2 a0 a1 a2 bk2) 2 [(0, rv g a0), (1, .int (iI a1)), (2, .int (iI a2))] []
    unfold x4_lifeOf_b2
    refine gj_iload_n C dX4_lifeOf_2 2 rfl ?_
    refine gj_bipush C dX4_lifeOf_3 rfl ?_
    refine gj_icmp_ge (tgt := 26) (b' := 6) C dX4_lifeOf_5 (by decide) rfl (by decide) (fun h5 => gj_neg h5 ?_) (fun h5 => gj_pos h5 ?_)
    · refine gj_iconst C dX4_lifeOf_26 ?_
      exact gx_iret C hQ hr dX4_lifeOf_27
    · refine gx_aload_n C dX4_lifeOf_8 0 rfl ?_
      refine gx_gR (O := "BorrowedLives$State") (nm := "self") (ds := "[I") (fin := true) C E dX4_lifeOf_9 (by decide +kernel) (Or.inl q302) (fun _ h => h) (fun v9 => ?_)
      refine gj_iload_n C dX4_lifeOf_12 2 rfl ?_
      refine gx_iald C E dX4_lifeOf_13 (fun v13 => ?_)
      refine gj_iload_n C dX4_lifeOf_14 1 rfl ?_
      refine gj_icmp_ne (tgt := 20) C dX4_lifeOf_15 (by decide) rfl rfl (fun h15 => gj_neg h15 ?_) (fun h15 => gj_pos h15 ?_)
      · refine gj_iinc (L' := [(2, _), (0, _), (1, _)]) C dX4_lifeOf_20 2 rfl (by decide) rfl ?_
        refine gj_goto (tgt := 2) C dX4_lifeOf_23 (by decide) ?_
        exact gj_to [1, 2, 0] (hb2 (a2 + 1)) rfl
      · refine gj_iload_n C dX4_lifeOf_18 2 rfl ?_
        exact gx_iret C hQ hr dX4_lifeOf_19
  unfold x4_lifeOf
  refine gj_iconst C dX4_lifeOf_0 ?_
  refine gj_istore_n (L' := [(2, _), (0, _), (1, _)]) C dX4_lifeOf_1 (by decide) rfl ?_
  exact gj_to [1, 2, 0] (J2 a0 a1 0) rfl
def x1_person (a0 : Option Nat) (a1 a2 : Int) : PT Hp Int :=
  pbnd (xrecv a0 1) fun _ =>
  pbnd (x1_isPerson a0 a1) fun v2 =>
  pite (w32 v2 = 0) (
    pret (-1)) (
    pite (w32 a2 = 0) (
      pbnd (xrecv a0 1) fun _ =>
      pbnd (x1_person_2 a0 a1) fun v38 =>
      pbnd (xdisp v38 [(6, x7_kind v38), (7, x8_kind v38), (8, x9_kind v38), (9, x10_kind v38)]) fun v41 =>
      pret v41) (
      pite (w32 a2 = 1) (
        pbnd (xrecv a0 1) fun _ =>
        pbnd (x1_person_2 a0 a1) fun v47 =>
        pbnd (xgIs v47 [6, 7, 8, 9] 1) fun v50 =>
        pret v50) (
        pite (w32 a2 = 2) (
          pbnd (xgR a0 1 4) fun v55 =>
          pbnd (xrecv v55 4) fun _ =>
          pbnd (x4_lifeOf v55 a1) fun v59 =>
          pret v59) (
          pret (-1)))))
set_option maxHeartbeats 4000000 in
set_option maxRecDepth 100000 in
theorem mx1_person (l : Launch) (g : XG) (a0 : Option Nat) (a1 a2 : Int) : XMet l g yX1_person cX1_person 3 (Option.some Jvm.ClassFile.FieldType.int) (4) [rv g a0, .int (iI a1), .int (iI a2)] (x1_person a0 a1 a2) rvI := by
  refine gx_start (by decide +kernel) (by have e := lg_sl_len [rv g a0, .int (iI a1), .int (iI a2)]; simp only [List.map_cons, List.map_nil, List.sum_cons, List.sum_nil, rv_cat, cat_int, cat_long] at e; omega) (fun X Q σ0 hl C E hQ hR hr hnm => ?_)
  subst hl
  rw [show lv_args 0 [rv g a0, .int (iI a1), .int (iI a2)] = [(0, rv g a0), (1, .int (iI a1)), (2, .int (iI a2))] from by simp [lv_args, rv_cat, cat_int, cat_long]]
  show GJ X 3 (xWo g σ0 (cx_s X).heap) Q (x1_person a0 a1 a2) 0 [(0, rv g a0), (1, .int (iI a1)), (2, .int (iI a2))] []
  unfold x1_person
  refine gx_aload_n C dX1_person_0 0 rfl ?_
  refine gj_iload_n C dX1_person_1 1 rfl ?_
  refine gx_callVI (t0 := 1) (As := [.int (iI a1)]) (rest := []) C E rfl dX1_person_2 (mx1_isPerson (cx_l X) g a0 a1) (lw_V q1188 q1190 qs28 q125 q1191) hyx_X1_isPerson rfl hR (Nat.le_of_ble_eq_true rfl) (by decide) rfl rfl (Nat.zero_le _) (fun v2 => ?_)
  refine gj_if_ne (tgt := 10) C dX1_person_5 (by decide) (fun h5 => gj_neg h5 ?_) (fun h5 => gj_pos h5 ?_)
  · refine gj_iload_n C dX1_person_10 2 rfl ?_
    by_cases h11_0 : w32 a2 = 0
    · refine gj_pos h11_0 ?_
      refine gj_tin (tgt := 36) C 0 h11_0 dX1_person_11 (by decide) (by decide) rfl (by decide) ?_
      refine gx_aload_n C dX1_person_36 0 rfl ?_
      refine gj_iload_n C dX1_person_37 1 rfl ?_
      refine gx_callVR (t0 := 1) (As := [.int (iI a1)]) (rest := []) C E rfl dX1_person_38 (mx1_person_2 (cx_l X) g a0 a1) (lw_V q1200 q1202 qs30 q125 q1203) hyx_X1_person_2 rfl hR (Nat.le_of_ble_eq_true rfl) (by decide) rfl rfl (Nat.zero_le _) (fun v38 => ?_)
      refine gx_shI (rest := []) (fun kk => ?_) (fun v41 => ?_)
      · refine gx_dcons (gx_callOI (x := ⟨"BorrowedLives$Person", "kind", "()I"⟩) (owner := "BorrowedLives$Person") (t0 := 6) (As := []) (rest := []) C E rfl dX1_person_41 (mx7_kind (cx_l X) g v38) q1206 q1209 q1207 q1208 q1207 q149 q1219 q1219 hy9_X7_kind hR (Nat.le_of_ble_eq_true rfl) (by decide) rfl rfl (Nat.zero_le _) kk) ?_
        refine gx_dcons (gx_callOI (x := ⟨"BorrowedLives$Person", "kind", "()I"⟩) (owner := "BorrowedLives$Person") (t0 := 7) (As := []) (rest := []) C E rfl dX1_person_41 (mx8_kind (cx_l X) g v38) q1206 q1209 q1207 q1213 q1214 q150 q1215 q1219 hy9_X7_kind hR (Nat.le_of_ble_eq_true rfl) (by decide) rfl rfl (Nat.zero_le _) kk) ?_
        refine gx_dcons (gx_callOI (x := ⟨"BorrowedLives$Person", "kind", "()I"⟩) (owner := "BorrowedLives$Person") (t0 := 8) (As := []) (rest := []) C E rfl dX1_person_41 (mx9_kind (cx_l X) g v38) q1206 q1209 q1207 q1216 q1217 q151 q1218 q1219 hy9_X7_kind hR (Nat.le_of_ble_eq_true rfl) (by decide) rfl rfl (Nat.zero_le _) kk) ?_
        refine gx_dcons (gx_callOI (x := ⟨"BorrowedLives$Person", "kind", "()I"⟩) (owner := "BorrowedLives$Person") (t0 := 9) (As := []) (rest := []) C E rfl dX1_person_41 (mx10_kind (cx_l X) g v38) q1206 q1209 q1207 q1210 q1211 q152 q1212 q1219 hy9_X7_kind hR (Nat.le_of_ble_eq_true rfl) (by decide) rfl rfl (Nat.zero_le _) kk) ?_
        exact gx_dnil
      exact gx_iret C hQ hr dX1_person_44
    · refine gj_neg h11_0 ?_
      by_cases h11_1 : w32 a2 = 1
      · refine gj_pos h11_1 ?_
        refine gj_tin (tgt := 45) C 1 h11_1 dX1_person_11 (by decide) (by decide) rfl (by decide) ?_
        refine gx_aload_n C dX1_person_45 0 rfl ?_
        refine gj_iload_n C dX1_person_46 1 rfl ?_
        refine gx_callVR (t0 := 1) (As := [.int (iI a1)]) (rest := []) C E rfl dX1_person_47 (mx1_person_2 (cx_l X) g a0 a1) (lw_V q1200 q1202 qs30 q125 q1203) hyx_X1_person_2 rfl hR (Nat.le_of_ble_eq_true rfl) (by decide) rfl rfl (Nat.zero_le _) (fun v47 => ?_)
        refine gx_gIs (O := "BorrowedLives$Person") (nm := "skill") (ds := "I") (fin := false) C E dX1_person_50 (by decide +kernel) (Or.inl q879) (fun _ h => h) (fun v50 => ?_)
        exact gx_iret C hQ hr dX1_person_53
      · refine gj_neg h11_1 ?_
        by_cases h11_2 : w32 a2 = 2
        · refine gj_pos h11_2 ?_
          refine gj_tin (tgt := 54) C 2 h11_2 dX1_person_11 (by decide) (by decide) rfl (by decide) ?_
          refine gx_aload_n C dX1_person_54 0 rfl ?_
          refine gx_gR (O := "BorrowedLives") (nm := "state") (ds := "LBorrowedLives$State;") (fin := true) C E dX1_person_55 (by decide +kernel) (Or.inl q380) (fun _ h => h) (fun v55 => ?_)
          refine gj_iload_n C dX1_person_58 1 rfl ?_
          refine gx_callVI (t0 := 4) (As := [.int (iI a1)]) (rest := []) C E rfl dX1_person_59 (mx4_lifeOf (cx_l X) g v55 a1) (lw_V q1220 q1221 q1222 q131 q1223) hyx_X4_lifeOf rfl hR (Nat.le_of_ble_eq_true rfl) (by decide) rfl rfl (Nat.zero_le _) (fun v59 => ?_)
          exact gx_iret C hQ hr dX1_person_62
        · refine gj_neg h11_2 ?_
          refine gj_tout (tgt := 63) C dX1_person_11 (by omega) (by decide) ?_
          refine gj_iconst C dX1_person_63 ?_
          exact gx_iret C hQ hr dX1_person_64
  · refine gj_iconst C dX1_person_8 ?_
    exact gx_iret C hQ hr dX1_person_9
def x4_harmOf (a0 : Option Nat) (a1 : Int) : PT Hp Int :=
  pbnd (xgI a0 4 7) fun v1 =>
  pite (w32 v1 = 0) (
    pret 0) (
    pbnd (xgR a0 4 4) fun v9 =>
    pbnd (xld v9 40 a1) fun v13 =>
    pbnd (xgR a0 4 0) fun v15 =>
    pbnd (xld v15 40 a1) fun v19 =>
    pbnd (xgR a0 4 1) fun v22 =>
    pbnd (xld v22 40 a1) fun v26 =>
    pbnd (xgR a0 4 5) fun v34 =>
    pbnd (xld v34 40 a1) fun v38 =>
    pbnd (xgR a0 4 2) fun v40 =>
    pbnd (xld v40 40 a1) fun v44 =>
    pret ((zmax 0 ((((v13 - v19)) + v26))) + ((5 * (zmax 0 ((v38 - v44)))))))
set_option maxHeartbeats 4000000 in
set_option maxRecDepth 100000 in
theorem mx4_harmOf (l : Launch) (g : XG) (a0 : Option Nat) (a1 : Int) : XMet l g yX4_harmOf cX4_harmOf 2 (Option.some Jvm.ClassFile.FieldType.int) (1) [rv g a0, .int (iI a1)] (x4_harmOf a0 a1) rvI := by
  refine gx_start (by decide +kernel) (by have e := lg_sl_len [rv g a0, .int (iI a1)]; simp only [List.map_cons, List.map_nil, List.sum_cons, List.sum_nil, rv_cat, cat_int, cat_long] at e; omega) (fun X Q σ0 hl C E hQ hR hr hnm => ?_)
  subst hl
  rw [show lv_args 0 [rv g a0, .int (iI a1)] = [(0, rv g a0), (1, .int (iI a1))] from by simp [lv_args, rv_cat, cat_int, cat_long]]
  show GJ X 2 (xWo g σ0 (cx_s X).heap) Q (x4_harmOf a0 a1) 0 [(0, rv g a0), (1, .int (iI a1))] []
  unfold x4_harmOf
  refine gx_aload_n C dX4_harmOf_0 0 rfl ?_
  refine gx_gI (O := "BorrowedLives$State") (nm := "away") (ds := "Z") (fin := false) C E dX4_harmOf_1 (by decide +kernel) (Or.inl q308) (fun _ h => h) (fun v1 => ?_)
  refine gj_if_eq (tgt := 54) C dX4_harmOf_4 (by decide) (fun h4 => gj_pos h4 ?_) (fun h4 => gj_neg h4 ?_)
  · refine gj_iconst C dX4_harmOf_54 ?_
    exact gx_iret C hQ hr dX4_harmOf_55
  · refine gj_iconst C dX4_harmOf_7 ?_
    refine gx_aload_n C dX4_harmOf_8 0 rfl ?_
    refine gx_gR (O := "BorrowedLives$State") (nm := "had") (ds := "[I") (fin := true) C E dX4_harmOf_9 (by decide +kernel) (Or.inl q300) (fun _ h => h) (fun v9 => ?_)
    refine gj_iload_n C dX4_harmOf_12 1 rfl ?_
    refine gx_iald C E dX4_harmOf_13 (fun v13 => ?_)
    refine gx_aload_n C dX4_harmOf_14 0 rfl ?_
    refine gx_gR (O := "BorrowedLives$State") (nm := "purse") (ds := "[I") (fin := true) C E dX4_harmOf_15 (by decide +kernel) (Or.inl q290) (fun _ h => h) (fun v15 => ?_)
    refine gj_iload_n C dX4_harmOf_18 1 rfl ?_
    refine gx_iald C E dX4_harmOf_19 (fun v19 => ?_)
    refine gj_isub C dX4_harmOf_20 ?_
    refine gx_aload_n C dX4_harmOf_21 0 rfl ?_
    refine gx_gR (O := "BorrowedLives$State") (nm := "debt") (ds := "[I") (fin := true) C E dX4_harmOf_22 (by decide +kernel) (Or.inl q293) (fun _ h => h) (fun v22 => ?_)
    refine gj_iload_n C dX4_harmOf_25 1 rfl ?_
    refine gx_iald C E dX4_harmOf_26 (fun v26 => ?_)
    refine gj_iadd C dX4_harmOf_27 ?_
    refine gx_max C E dX4_harmOf_28 q1232 q514 q137 q515 hR (Nat.le_of_ble_eq_true rfl) (Nat.zero_le _) ?_
    refine gj_iconst C dX4_harmOf_31 ?_
    refine gj_iconst C dX4_harmOf_32 ?_
    refine gx_aload_n C dX4_harmOf_33 0 rfl ?_
    refine gx_gR (O := "BorrowedLives$State") (nm := "neat") (ds := "[I") (fin := true) C E dX4_harmOf_34 (by decide +kernel) (Or.inl q301) (fun _ h => h) (fun v34 => ?_)
    refine gj_iload_n C dX4_harmOf_37 1 rfl ?_
    refine gx_iald C E dX4_harmOf_38 (fun v38 => ?_)
    refine gx_aload_n C dX4_harmOf_39 0 rfl ?_
    refine gx_gR (O := "BorrowedLives$State") (nm := "home") (ds := "[I") (fin := true) C E dX4_harmOf_40 (by decide +kernel) (Or.inl q295) (fun _ h => h) (fun v40 => ?_)
    refine gj_iload_n C dX4_harmOf_43 1 rfl ?_
    refine gx_iald C E dX4_harmOf_44 (fun v44 => ?_)
    refine gj_isub C dX4_harmOf_45 ?_
    refine gx_max C E dX4_harmOf_46 q1232 q514 q137 q515 hR (Nat.le_of_ble_eq_true rfl) (Nat.le_of_ble_eq_true rfl) ?_
    refine gj_imul C dX4_harmOf_49 ?_
    refine gj_iadd C dX4_harmOf_50 ?_
    refine gj_goto (tgt := 55) C dX4_harmOf_51 (by decide) ?_
    exact gx_iret C hQ hr dX4_harmOf_55
def x4_goodOf (a0 : Option Nat) (a1 : Int) : PT Hp Int :=
  pbnd (xgI a0 4 7) fun v1 =>
  pite (w32 v1 = 0) (
    pret 0) (
    pbnd (xgR a0 4 0) fun v9 =>
    pbnd (xld v9 40 a1) fun v13 =>
    pbnd (xgR a0 4 1) fun v15 =>
    pbnd (xld v15 40 a1) fun v19 =>
    pbnd (xgR a0 4 4) fun v22 =>
    pbnd (xld v22 40 a1) fun v26 =>
    pbnd (xgR a0 4 2) fun v34 =>
    pbnd (xld v34 40 a1) fun v38 =>
    pbnd (xgR a0 4 5) fun v40 =>
    pbnd (xld v40 40 a1) fun v44 =>
    pret ((zmax 0 ((((v13 - v19)) - v26))) + ((5 * (zmax 0 ((v38 - v44)))))))
set_option maxHeartbeats 4000000 in
set_option maxRecDepth 100000 in
theorem mx4_goodOf (l : Launch) (g : XG) (a0 : Option Nat) (a1 : Int) : XMet l g yX4_goodOf cX4_goodOf 2 (Option.some Jvm.ClassFile.FieldType.int) (1) [rv g a0, .int (iI a1)] (x4_goodOf a0 a1) rvI := by
  refine gx_start (by decide +kernel) (by have e := lg_sl_len [rv g a0, .int (iI a1)]; simp only [List.map_cons, List.map_nil, List.sum_cons, List.sum_nil, rv_cat, cat_int, cat_long] at e; omega) (fun X Q σ0 hl C E hQ hR hr hnm => ?_)
  subst hl
  rw [show lv_args 0 [rv g a0, .int (iI a1)] = [(0, rv g a0), (1, .int (iI a1))] from by simp [lv_args, rv_cat, cat_int, cat_long]]
  show GJ X 2 (xWo g σ0 (cx_s X).heap) Q (x4_goodOf a0 a1) 0 [(0, rv g a0), (1, .int (iI a1))] []
  unfold x4_goodOf
  refine gx_aload_n C dX4_goodOf_0 0 rfl ?_
  refine gx_gI (O := "BorrowedLives$State") (nm := "away") (ds := "Z") (fin := false) C E dX4_goodOf_1 (by decide +kernel) (Or.inl q308) (fun _ h => h) (fun v1 => ?_)
  refine gj_if_eq (tgt := 54) C dX4_goodOf_4 (by decide) (fun h4 => gj_pos h4 ?_) (fun h4 => gj_neg h4 ?_)
  · refine gj_iconst C dX4_goodOf_54 ?_
    exact gx_iret C hQ hr dX4_goodOf_55
  · refine gj_iconst C dX4_goodOf_7 ?_
    refine gx_aload_n C dX4_goodOf_8 0 rfl ?_
    refine gx_gR (O := "BorrowedLives$State") (nm := "purse") (ds := "[I") (fin := true) C E dX4_goodOf_9 (by decide +kernel) (Or.inl q290) (fun _ h => h) (fun v9 => ?_)
    refine gj_iload_n C dX4_goodOf_12 1 rfl ?_
    refine gx_iald C E dX4_goodOf_13 (fun v13 => ?_)
    refine gx_aload_n C dX4_goodOf_14 0 rfl ?_
    refine gx_gR (O := "BorrowedLives$State") (nm := "debt") (ds := "[I") (fin := true) C E dX4_goodOf_15 (by decide +kernel) (Or.inl q293) (fun _ h => h) (fun v15 => ?_)
    refine gj_iload_n C dX4_goodOf_18 1 rfl ?_
    refine gx_iald C E dX4_goodOf_19 (fun v19 => ?_)
    refine gj_isub C dX4_goodOf_20 ?_
    refine gx_aload_n C dX4_goodOf_21 0 rfl ?_
    refine gx_gR (O := "BorrowedLives$State") (nm := "had") (ds := "[I") (fin := true) C E dX4_goodOf_22 (by decide +kernel) (Or.inl q300) (fun _ h => h) (fun v22 => ?_)
    refine gj_iload_n C dX4_goodOf_25 1 rfl ?_
    refine gx_iald C E dX4_goodOf_26 (fun v26 => ?_)
    refine gj_isub C dX4_goodOf_27 ?_
    refine gx_max C E dX4_goodOf_28 q1232 q514 q137 q515 hR (Nat.le_of_ble_eq_true rfl) (Nat.zero_le _) ?_
    refine gj_iconst C dX4_goodOf_31 ?_
    refine gj_iconst C dX4_goodOf_32 ?_
    refine gx_aload_n C dX4_goodOf_33 0 rfl ?_
    refine gx_gR (O := "BorrowedLives$State") (nm := "home") (ds := "[I") (fin := true) C E dX4_goodOf_34 (by decide +kernel) (Or.inl q295) (fun _ h => h) (fun v34 => ?_)
    refine gj_iload_n C dX4_goodOf_37 1 rfl ?_
    refine gx_iald C E dX4_goodOf_38 (fun v38 => ?_)
    refine gx_aload_n C dX4_goodOf_39 0 rfl ?_
    refine gx_gR (O := "BorrowedLives$State") (nm := "neat") (ds := "[I") (fin := true) C E dX4_goodOf_40 (by decide +kernel) (Or.inl q301) (fun _ h => h) (fun v40 => ?_)
    refine gj_iload_n C dX4_goodOf_43 1 rfl ?_
    refine gx_iald C E dX4_goodOf_44 (fun v44 => ?_)
    refine gj_isub C dX4_goodOf_45 ?_
    refine gx_max C E dX4_goodOf_46 q1232 q514 q137 q515 hR (Nat.le_of_ble_eq_true rfl) (Nat.le_of_ble_eq_true rfl) ?_
    refine gj_imul C dX4_goodOf_49 ?_
    refine gj_iadd C dX4_goodOf_50 ?_
    refine gj_goto (tgt := 55) C dX4_goodOf_51 (by decide) ?_
    exact gx_iret C hQ hr dX4_goodOf_55
def x1_life (a0 : Option Nat) (a1 a2 : Int) : PT Hp Int :=
  pbnd (xrecv a0 1) fun _ =>
  pbnd (x1_isPerson a0 a1) fun v2 =>
  pite (w32 v2 = 0) (
    pret (-1)) (
    pite (w32 a2 = 0) (
      pbnd (xgR a0 1 4) fun v53 =>
      pbnd (xgR v53 4 0) fun v56 =>
      pbnd (xld v56 40 a1) fun v60 =>
      pret v60) (
      pite (w32 a2 = 1) (
        pbnd (xgR a0 1 4) fun v63 =>
        pbnd (xgR v63 4 1) fun v66 =>
        pbnd (xld v66 40 a1) fun v70 =>
        pret v70) (
        pite (w32 a2 = 2) (
          pbnd (xgR a0 1 4) fun v73 =>
          pbnd (xgR v73 4 2) fun v76 =>
          pbnd (xld v76 40 a1) fun v80 =>
          pret v80) (
          pite (w32 a2 = 3) (
            pbnd (xgR a0 1 4) fun v83 =>
            pbnd (xgR v83 4 3) fun v86 =>
            pbnd (xld v86 40 a1) fun v90 =>
            pret v90) (
            pite (w32 a2 = 4) (
              pbnd (xgR a0 1 4) fun v93 =>
              pbnd (xgR v93 4 6) fun v96 =>
              pbnd (xld v96 40 a1) fun v100 =>
              pret v100) (
              pite (w32 a2 = 5) (
                pbnd (xgR a0 1 4) fun v103 =>
                pbnd (xrecv v103 4) fun _ =>
                pbnd (x4_harmOf v103 a1) fun v107 =>
                pret v107) (
                pite (w32 a2 = 6) (
                  pbnd (xgR a0 1 4) fun v112 =>
                  pbnd (xrecv v112 4) fun _ =>
                  pbnd (x4_goodOf v112 a1) fun v116 =>
                  pret v116) (
                  pret (-1)))))))))
set_option maxHeartbeats 4000000 in
set_option maxRecDepth 100000 in
theorem mx1_life (l : Launch) (g : XG) (a0 : Option Nat) (a1 a2 : Int) : XMet l g yX1_life cX1_life 3 (Option.some Jvm.ClassFile.FieldType.int) (3) [rv g a0, .int (iI a1), .int (iI a2)] (x1_life a0 a1 a2) rvI := by
  refine gx_start (by decide +kernel) (by have e := lg_sl_len [rv g a0, .int (iI a1), .int (iI a2)]; simp only [List.map_cons, List.map_nil, List.sum_cons, List.sum_nil, rv_cat, cat_int, cat_long] at e; omega) (fun X Q σ0 hl C E hQ hR hr hnm => ?_)
  subst hl
  rw [show lv_args 0 [rv g a0, .int (iI a1), .int (iI a2)] = [(0, rv g a0), (1, .int (iI a1)), (2, .int (iI a2))] from by simp [lv_args, rv_cat, cat_int, cat_long]]
  show GJ X 3 (xWo g σ0 (cx_s X).heap) Q (x1_life a0 a1 a2) 0 [(0, rv g a0), (1, .int (iI a1)), (2, .int (iI a2))] []
  unfold x1_life
  refine gx_aload_n C dX1_life_0 0 rfl ?_
  refine gj_iload_n C dX1_life_1 1 rfl ?_
  refine gx_callVI (t0 := 1) (As := [.int (iI a1)]) (rest := []) C E rfl dX1_life_2 (mx1_isPerson (cx_l X) g a0 a1) (lw_V q1188 q1190 qs28 q125 q1191) hyx_X1_isPerson rfl hR (Nat.le_of_ble_eq_true rfl) (by decide) rfl rfl (Nat.zero_le _) (fun v2 => ?_)
  refine gj_if_ne (tgt := 10) C dX1_life_5 (by decide) (fun h5 => gj_neg h5 ?_) (fun h5 => gj_pos h5 ?_)
  · refine gj_iload_n C dX1_life_10 2 rfl ?_
    by_cases h11_0 : w32 a2 = 0
    · refine gj_pos h11_0 ?_
      refine gj_tin (tgt := 52) C 0 h11_0 dX1_life_11 (by decide) (by decide) rfl (by decide) ?_
      refine gx_aload_n C dX1_life_52 0 rfl ?_
      refine gx_gR (O := "BorrowedLives") (nm := "state") (ds := "LBorrowedLives$State;") (fin := true) C E dX1_life_53 (by decide +kernel) (Or.inl q380) (fun _ h => h) (fun v53 => ?_)
      refine gx_gR (O := "BorrowedLives$State") (nm := "purse") (ds := "[I") (fin := true) C E dX1_life_56 (by decide +kernel) (Or.inr ⟨_, q292⟩) (fun _ h => h) (fun v56 => ?_)
      refine gj_iload_n C dX1_life_59 1 rfl ?_
      refine gx_iald C E dX1_life_60 (fun v60 => ?_)
      exact gx_iret C hQ hr dX1_life_61
    · refine gj_neg h11_0 ?_
      by_cases h11_1 : w32 a2 = 1
      · refine gj_pos h11_1 ?_
        refine gj_tin (tgt := 62) C 1 h11_1 dX1_life_11 (by decide) (by decide) rfl (by decide) ?_
        refine gx_aload_n C dX1_life_62 0 rfl ?_
        refine gx_gR (O := "BorrowedLives") (nm := "state") (ds := "LBorrowedLives$State;") (fin := true) C E dX1_life_63 (by decide +kernel) (Or.inl q380) (fun _ h => h) (fun v63 => ?_)
        refine gx_gR (O := "BorrowedLives$State") (nm := "debt") (ds := "[I") (fin := true) C E dX1_life_66 (by decide +kernel) (Or.inr ⟨_, q294⟩) (fun _ h => h) (fun v66 => ?_)
        refine gj_iload_n C dX1_life_69 1 rfl ?_
        refine gx_iald C E dX1_life_70 (fun v70 => ?_)
        exact gx_iret C hQ hr dX1_life_71
      · refine gj_neg h11_1 ?_
        by_cases h11_2 : w32 a2 = 2
        · refine gj_pos h11_2 ?_
          refine gj_tin (tgt := 72) C 2 h11_2 dX1_life_11 (by decide) (by decide) rfl (by decide) ?_
          refine gx_aload_n C dX1_life_72 0 rfl ?_
          refine gx_gR (O := "BorrowedLives") (nm := "state") (ds := "LBorrowedLives$State;") (fin := true) C E dX1_life_73 (by decide +kernel) (Or.inl q380) (fun _ h => h) (fun v73 => ?_)
          refine gx_gR (O := "BorrowedLives$State") (nm := "home") (ds := "[I") (fin := true) C E dX1_life_76 (by decide +kernel) (Or.inr ⟨_, q296⟩) (fun _ h => h) (fun v76 => ?_)
          refine gj_iload_n C dX1_life_79 1 rfl ?_
          refine gx_iald C E dX1_life_80 (fun v80 => ?_)
          exact gx_iret C hQ hr dX1_life_81
        · refine gj_neg h11_2 ?_
          by_cases h11_3 : w32 a2 = 3
          · refine gj_pos h11_3 ?_
            refine gj_tin (tgt := 82) C 3 h11_3 dX1_life_11 (by decide) (by decide) rfl (by decide) ?_
            refine gx_aload_n C dX1_life_82 0 rfl ?_
            refine gx_gR (O := "BorrowedLives") (nm := "state") (ds := "LBorrowedLives$State;") (fin := true) C E dX1_life_83 (by decide +kernel) (Or.inl q380) (fun _ h => h) (fun v83 => ?_)
            refine gx_gR (O := "BorrowedLives$State") (nm := "hidden") (ds := "[I") (fin := true) C E dX1_life_86 (by decide +kernel) (Or.inr ⟨_, q299⟩) (fun _ h => h) (fun v86 => ?_)
            refine gj_iload_n C dX1_life_89 1 rfl ?_
            refine gx_iald C E dX1_life_90 (fun v90 => ?_)
            exact gx_iret C hQ hr dX1_life_91
          · refine gj_neg h11_3 ?_
            by_cases h11_4 : w32 a2 = 4
            · refine gj_pos h11_4 ?_
              refine gj_tin (tgt := 92) C 4 h11_4 dX1_life_11 (by decide) (by decide) rfl (by decide) ?_
              refine gx_aload_n C dX1_life_92 0 rfl ?_
              refine gx_gR (O := "BorrowedLives") (nm := "state") (ds := "LBorrowedLives$State;") (fin := true) C E dX1_life_93 (by decide +kernel) (Or.inl q380) (fun _ h => h) (fun v93 => ?_)
              refine gx_gR (O := "BorrowedLives$State") (nm := "self") (ds := "[I") (fin := true) C E dX1_life_96 (by decide +kernel) (Or.inr ⟨_, q303⟩) (fun _ h => h) (fun v96 => ?_)
              refine gj_iload_n C dX1_life_99 1 rfl ?_
              refine gx_iald C E dX1_life_100 (fun v100 => ?_)
              exact gx_iret C hQ hr dX1_life_101
            · refine gj_neg h11_4 ?_
              by_cases h11_5 : w32 a2 = 5
              · refine gj_pos h11_5 ?_
                refine gj_tin (tgt := 102) C 5 h11_5 dX1_life_11 (by decide) (by decide) rfl (by decide) ?_
                refine gx_aload_n C dX1_life_102 0 rfl ?_
                refine gx_gR (O := "BorrowedLives") (nm := "state") (ds := "LBorrowedLives$State;") (fin := true) C E dX1_life_103 (by decide +kernel) (Or.inl q380) (fun _ h => h) (fun v103 => ?_)
                refine gj_iload_n C dX1_life_106 1 rfl ?_
                refine gx_callVI (t0 := 4) (As := [.int (iI a1)]) (rest := []) C E rfl dX1_life_107 (mx4_harmOf (cx_l X) g v103 a1) (lw_V q1228 q1229 q1230 q131 q1231) hyx_X4_harmOf rfl hR (Nat.le_of_ble_eq_true rfl) (by decide) rfl rfl (Nat.zero_le _) (fun v107 => ?_)
                exact gx_iret C hQ hr dX1_life_110
              · refine gj_neg h11_5 ?_
                by_cases h11_6 : w32 a2 = 6
                · refine gj_pos h11_6 ?_
                  refine gj_tin (tgt := 111) C 6 h11_6 dX1_life_11 (by decide) (by decide) rfl (by decide) ?_
                  refine gx_aload_n C dX1_life_111 0 rfl ?_
                  refine gx_gR (O := "BorrowedLives") (nm := "state") (ds := "LBorrowedLives$State;") (fin := true) C E dX1_life_112 (by decide +kernel) (Or.inl q380) (fun _ h => h) (fun v112 => ?_)
                  refine gj_iload_n C dX1_life_115 1 rfl ?_
                  refine gx_callVI (t0 := 4) (As := [.int (iI a1)]) (rest := []) C E rfl dX1_life_116 (mx4_goodOf (cx_l X) g v112 a1) (lw_V q1233 q1234 q1235 q131 q1236) hyx_X4_goodOf rfl hR (Nat.le_of_ble_eq_true rfl) (by decide) rfl rfl (Nat.zero_le _) (fun v116 => ?_)
                  exact gx_iret C hQ hr dX1_life_119
                · refine gj_neg h11_6 ?_
                  refine gj_tout (tgt := 120) C dX1_life_11 (by omega) (by decide) ?_
                  refine gj_iconst C dX1_life_120 ?_
                  exact gx_iret C hQ hr dX1_life_121
  · refine gj_iconst C dX1_life_8 ?_
    exact gx_iret C hQ hr dX1_life_9
def x1_mayBe (a0 : Option Nat) (a1 a2 : Int) : PT Hp Int :=
  pite (w32 a1 = w32 a2) (
    pbnd (pzo 0) fun _ => pret 0) (
    pbnd (xrecv a0 1) fun _ =>
    pbnd (x1_person_2 a0 a1) fun v7 =>
    pbnd (xgIs v7 [6, 7, 8, 9] 5) fun v10 =>
    pbnd (x1_isIn v10 a2) fun v14 =>
    pite (w32 v14 = 0) (
      pbnd (pzo 1) fun _ => pret 1) (
      pbnd (pzo 0) fun _ => pret 0))
set_option maxHeartbeats 4000000 in
set_option maxRecDepth 100000 in
theorem mx1_mayBe (l : Launch) (g : XG) (a0 : Option Nat) (a1 a2 : Int) : XMet l g yX1_mayBe cX1_mayBe 3 (Option.some Jvm.ClassFile.FieldType.boolean) (4) [rv g a0, .int (iI a1), .int (iI a2)] (x1_mayBe a0 a1 a2) rvI := by
  refine gx_start (by decide +kernel) (by have e := lg_sl_len [rv g a0, .int (iI a1), .int (iI a2)]; simp only [List.map_cons, List.map_nil, List.sum_cons, List.sum_nil, rv_cat, cat_int, cat_long] at e; omega) (fun X Q σ0 hl C E hQ hR hr hnm => ?_)
  subst hl
  rw [show lv_args 0 [rv g a0, .int (iI a1), .int (iI a2)] = [(0, rv g a0), (1, .int (iI a1)), (2, .int (iI a2))] from by simp [lv_args, rv_cat, cat_int, cat_long]]
  show GJ X 3 (xWo g σ0 (cx_s X).heap) Q (x1_mayBe a0 a1 a2) 0 [(0, rv g a0), (1, .int (iI a1)), (2, .int (iI a2))] []
  unfold x1_mayBe
  refine gj_iload_n C dX1_mayBe_0 1 rfl ?_
  refine gj_iload_n C dX1_mayBe_1 2 rfl ?_
  refine gj_icmp_eq (tgt := 24) C dX1_mayBe_2 (by decide) rfl rfl (fun h2 => gj_pos h2 ?_) (fun h2 => gj_neg h2 ?_)
  · refine gj_iconst C dX1_mayBe_24 ?_
    exact gx_zret C hQ hr dX1_mayBe_25
  · refine gx_aload_n C dX1_mayBe_5 0 rfl ?_
    refine gj_iload_n C dX1_mayBe_6 1 rfl ?_
    refine gx_callVR (t0 := 1) (As := [.int (iI a1)]) (rest := []) C E rfl dX1_mayBe_7 (mx1_person_2 (cx_l X) g a0 a1) (lw_V q1200 q1202 qs30 q125 q1203) hyx_X1_person_2 rfl hR (Nat.le_of_ble_eq_true rfl) (by decide) rfl rfl (Nat.zero_le _) (fun v7 => ?_)
    refine gx_gIs (O := "BorrowedLives$Person") (nm := "barred") (ds := "I") (fin := false) C E dX1_mayBe_10 (by decide +kernel) (Or.inl q887) (fun _ h => h) (fun v10 => ?_)
    refine gj_iload_n C dX1_mayBe_13 2 rfl ?_
    refine gx_callSI (As := [.int (iI v10), .int (iI a2)]) (rest := []) C E dX1_mayBe_14 (mx1_isIn (cx_l X) g v10 a2) (lw_S q1245 q1025 q125 q1026) hyx_X1_isIn hR (Nat.le_of_ble_eq_true rfl) (by decide) rfl rfl (Nat.zero_le _) (fun v14 => ?_)
    refine gj_if_ne (tgt := 24) C dX1_mayBe_17 (by decide) (fun h17 => gj_neg h17 ?_) (fun h17 => gj_pos h17 ?_)
    · refine gj_iconst C dX1_mayBe_24 ?_
      exact gx_zret C hQ hr dX1_mayBe_25
    · refine gj_iconst C dX1_mayBe_20 ?_
      refine gj_goto (tgt := 25) C dX1_mayBe_21 (by decide) ?_
      exact gx_zret C hQ hr dX1_mayBe_25
def x1_may (a0 : Option Nat) (a1 a2 : Int) : PT Hp Int :=
  pbnd (xrecv a0 1) fun _ =>
  pbnd (x1_isPerson a0 a1) fun v2 =>
  pite (w32 v2 = 0) (
    pbnd (pzo 0) fun _ => pret 0) (
    pbnd (xrecv a0 1) fun _ =>
    pbnd (x1_isPerson a0 a2) fun v10 =>
    pite (w32 v10 = 0) (
      pbnd (pzo 0) fun _ => pret 0) (
      pbnd (xrecv a0 1) fun _ =>
      pbnd (x1_mayBe a0 a1 a2) fun v19 =>
      pite (w32 v19 = 0) (
        pbnd (pzo 0) fun _ => pret 0) (
        pbnd (pzo 1) fun _ => pret 1)))
set_option maxHeartbeats 4000000 in
set_option maxRecDepth 100000 in
theorem mx1_may (l : Launch) (g : XG) (a0 : Option Nat) (a1 a2 : Int) : XMet l g yX1_may cX1_may 3 (Option.some Jvm.ClassFile.FieldType.boolean) (5) [rv g a0, .int (iI a1), .int (iI a2)] (x1_may a0 a1 a2) rvI := by
  refine gx_start (by decide +kernel) (by have e := lg_sl_len [rv g a0, .int (iI a1), .int (iI a2)]; simp only [List.map_cons, List.map_nil, List.sum_cons, List.sum_nil, rv_cat, cat_int, cat_long] at e; omega) (fun X Q σ0 hl C E hQ hR hr hnm => ?_)
  subst hl
  rw [show lv_args 0 [rv g a0, .int (iI a1), .int (iI a2)] = [(0, rv g a0), (1, .int (iI a1)), (2, .int (iI a2))] from by simp [lv_args, rv_cat, cat_int, cat_long]]
  show GJ X 3 (xWo g σ0 (cx_s X).heap) Q (x1_may a0 a1 a2) 0 [(0, rv g a0), (1, .int (iI a1)), (2, .int (iI a2))] []
  unfold x1_may
  refine gx_aload_n C dX1_may_0 0 rfl ?_
  refine gj_iload_n C dX1_may_1 1 rfl ?_
  refine gx_callVI (t0 := 1) (As := [.int (iI a1)]) (rest := []) C E rfl dX1_may_2 (mx1_isPerson (cx_l X) g a0 a1) (lw_V q1188 q1190 qs28 q125 q1191) hyx_X1_isPerson rfl hR (Nat.le_of_ble_eq_true rfl) (by decide) rfl rfl (Nat.zero_le _) (fun v2 => ?_)
  refine gj_if_eq (tgt := 29) C dX1_may_5 (by decide) (fun h5 => gj_pos h5 ?_) (fun h5 => gj_neg h5 ?_)
  · refine gj_iconst C dX1_may_29 ?_
    exact gx_zret C hQ hr dX1_may_30
  · refine gx_aload_n C dX1_may_8 0 rfl ?_
    refine gj_iload_n C dX1_may_9 2 rfl ?_
    refine gx_callVI (t0 := 1) (As := [.int (iI a2)]) (rest := []) C E rfl dX1_may_10 (mx1_isPerson (cx_l X) g a0 a2) (lw_V q1188 q1190 qs28 q125 q1191) hyx_X1_isPerson rfl hR (Nat.le_of_ble_eq_true rfl) (by decide) rfl rfl (Nat.zero_le _) (fun v10 => ?_)
    refine gj_if_eq (tgt := 29) C dX1_may_13 (by decide) (fun h13 => gj_pos h13 ?_) (fun h13 => gj_neg h13 ?_)
    · refine gj_iconst C dX1_may_29 ?_
      exact gx_zret C hQ hr dX1_may_30
    · refine gx_aload_n C dX1_may_16 0 rfl ?_
      refine gj_iload_n C dX1_may_17 1 rfl ?_
      refine gj_iload_n C dX1_may_18 2 rfl ?_
      refine gx_callVI (t0 := 1) (As := [.int (iI a1), .int (iI a2)]) (rest := []) C E rfl dX1_may_19 (mx1_mayBe (cx_l X) g a0 a1 a2) (lw_V q1241 q1243 qs31 q125 q1244) hyx_X1_mayBe rfl hR (Nat.le_of_ble_eq_true rfl) (by decide) rfl rfl (Nat.zero_le _) (fun v19 => ?_)
      refine gj_if_eq (tgt := 29) C dX1_may_22 (by decide) (fun h22 => gj_pos h22 ?_) (fun h22 => gj_neg h22 ?_)
      · refine gj_iconst C dX1_may_29 ?_
        exact gx_zret C hQ hr dX1_may_30
      · refine gj_iconst C dX1_may_25 ?_
        refine gj_goto (tgt := 30) C dX1_may_26 (by decide) ?_
        exact gx_zret C hQ hr dX1_may_30
def x22_init (a0 a1 : Option Nat) : PT Hp Unit :=
  pbnd (xpRs a0 [19, 20, 21, 22, 23, 24] 1 a1) fun _ =>
  pbnd (xnn a0) fun _ =>
  pret ()
set_option maxHeartbeats 4000000 in
set_option maxRecDepth 100000 in
theorem mx22_init (l : Launch) (g : XG) (a0 a1 : Option Nat) : XMet l g yX22_init cX22_init 2 (Option.none : Option Jvm.ClassFile.FieldType) (1) [rv g a0, rv g a1] (x22_init a0 a1) rvV := by
  refine gx_start (by decide +kernel) (by have e := lg_sl_len [rv g a0, rv g a1]; simp only [List.map_cons, List.map_nil, List.sum_cons, List.sum_nil, rv_cat, cat_int, cat_long] at e; omega) (fun X Q σ0 hl C E hQ hR hr hnm => ?_)
  subst hl
  rw [show lv_args 0 [rv g a0, rv g a1] = [(0, rv g a0), (1, rv g a1)] from by simp [lv_args, rv_cat, cat_int, cat_long]]
  show GJ X 2 (xWo g σ0 (cx_s X).heap) Q (x22_init a0 a1) 0 [(0, rv g a0), (1, rv g a1)] []
  unfold x22_init
  refine gx_aload_n C dX22_init_0 0 rfl ?_
  refine gx_aload_n C dX22_init_1 1 rfl ?_
  refine gx_pRs (O := "BorrowedLives$Looker") (nm := "this$0") (ds := "LBorrowedLives;") (fin := true) (ty := (.object "BorrowedLives")) C E dX22_init_2 (by decide +kernel) (Or.inl q1274) (fun _ h => h) (fun _ => ⟨hnm, rfl⟩) (by decide +kernel) (by decide) ?_
  refine gx_aload_n C dX22_init_5 0 rfl ?_
  refine gx_objinit C E dX22_init_6 q1258 q180 q181 hR (Nat.le_of_ble_eq_true rfl) (Nat.zero_le _) ?_
  exact gx_vret C hQ hr dX22_init_9
def x23_init (a0 a1 : Option Nat) (a2 a3 : Int) : PT Hp Unit :=
  pbnd (xpR a0 19 5 a1) fun _ =>
  pbnd (xnn a0) fun _ =>
  pbnd (x22_init a0 a1) fun _ =>
  pbnd (xpI a0 19 2 a2) fun _ =>
  pbnd (xpI a0 19 3 a3) fun _ =>
  pret ()
set_option maxHeartbeats 4000000 in
set_option maxRecDepth 100000 in
theorem mx23_init (l : Launch) (g : XG) (a0 a1 : Option Nat) (a2 a3 : Int) : XMet l g yX23_init cX23_init 4 (Option.none : Option Jvm.ClassFile.FieldType) (2) [rv g a0, rv g a1, .int (iI a2), .int (iI a3)] (x23_init a0 a1 a2 a3) rvV := by
  refine gx_start (by decide +kernel) (by have e := lg_sl_len [rv g a0, rv g a1, .int (iI a2), .int (iI a3)]; simp only [List.map_cons, List.map_nil, List.sum_cons, List.sum_nil, rv_cat, cat_int, cat_long] at e; omega) (fun X Q σ0 hl C E hQ hR hr hnm => ?_)
  subst hl
  rw [show lv_args 0 [rv g a0, rv g a1, .int (iI a2), .int (iI a3)] = [(0, rv g a0), (1, rv g a1), (2, .int (iI a2)), (3, .int (iI a3))] from by simp [lv_args, rv_cat, cat_int, cat_long]]
  show GJ X 4 (xWo g σ0 (cx_s X).heap) Q (x23_init a0 a1 a2 a3) 0 [(0, rv g a0), (1, rv g a1), (2, .int (iI a2)), (3, .int (iI a3))] []
  unfold x23_init
  refine gx_aload_n C dX23_init_0 0 rfl ?_
  refine gx_aload_n C dX23_init_1 1 rfl ?_
  refine gx_pR (O := "BorrowedLives$Counts") (nm := "this$0") (ds := "LBorrowedLives;") (fin := true) (ty := (.object "BorrowedLives")) C E dX23_init_2 (by decide +kernel) (Or.inl q1263) (fun _ h => h) (fun _ => ⟨hnm, rfl⟩) (by decide +kernel) (by decide) ?_
  refine gx_aload_n C dX23_init_5 0 rfl ?_
  refine gx_aload_n C dX23_init_6 1 rfl ?_
  refine gx_callINV (As := [rv g a1]) (rest := []) C E dX23_init_7 (mx22_init (cx_l X) g a0 a1) (lw_meth q1257) q164 q1255 q1256 rfl hyx_X22_init hR (Nat.le_of_ble_eq_true rfl) (by decide) rfl rfl (Nat.zero_le _) ?_
  refine gx_aload_n C dX23_init_10 0 rfl ?_
  refine gj_iload_n C dX23_init_11 2 rfl ?_
  refine gx_pI (O := "BorrowedLives$Counts") (nm := "person") (ds := "I") (fin := true) (ty := .int) C E dX23_init_12 (by decide +kernel) (Or.inl q1259) (fun _ h => h) (fun _ => ⟨hnm, rfl⟩) (by decide +kernel) (inty_int _) ?_
  refine gx_aload_n C dX23_init_15 0 rfl ?_
  refine gj_iload_n C dX23_init_16 3 rfl ?_
  refine gx_pI (O := "BorrowedLives$Counts") (nm := "life") (ds := "I") (fin := true) (ty := .int) C E dX23_init_17 (by decide +kernel) (Or.inl q1260) (fun _ h => h) (fun _ => ⟨hnm, rfl⟩) (by decide +kernel) (inty_int _) ?_
  exact gx_vret C hQ hr dX23_init_20
def x23_sees (a0 a1 : Option Nat) : PT Hp Unit :=
  pbnd (xgI a0 19 3) fun v1 =>
  pite (w32 v1 < 0) (
    pret ()) (
    pbnd (xgI a0 19 3) fun v9 =>
    pbnd (xld a1 40 v9) fun v12 =>
    pbnd (xgI a0 19 2) fun v14 =>
    pite (w32 v12 = w32 v14) (
      pbnd (xgI a0 19 4) fun v22 =>
      pbnd (xpI a0 19 4 (v22 + 1)) fun _ =>
      pret ()) (
      pret ()))
set_option maxHeartbeats 4000000 in
set_option maxRecDepth 100000 in
theorem mx23_sees (l : Launch) (g : XG) (a0 a1 : Option Nat) : XMet l g yX23_sees cX23_sees 2 (Option.none : Option Jvm.ClassFile.FieldType) (0) [rv g a0, rv g a1] (x23_sees a0 a1) rvV := by
  refine gx_start (by decide +kernel) (by have e := lg_sl_len [rv g a0, rv g a1]; simp only [List.map_cons, List.map_nil, List.sum_cons, List.sum_nil, rv_cat, cat_int, cat_long] at e; omega) (fun X Q σ0 hl C E hQ hR hr hnm => ?_)
  subst hl
  rw [show lv_args 0 [rv g a0, rv g a1] = [(0, rv g a0), (1, rv g a1)] from by simp [lv_args, rv_cat, cat_int, cat_long]]
  show GJ X 2 (xWo g σ0 (cx_s X).heap) Q (x23_sees a0 a1) 0 [(0, rv g a0), (1, rv g a1)] []
  unfold x23_sees
  refine gx_aload_n C dX23_sees_0 0 rfl ?_
  refine gx_gI (O := "BorrowedLives$Counts") (nm := "life") (ds := "I") (fin := true) C E dX23_sees_1 (by decide +kernel) (Or.inl q1260) (fun _ h => h) (fun v1 => ?_)
  refine gj_if_lt (tgt := 30) C dX23_sees_4 (by decide) (fun h4 => gj_pos h4 ?_) (fun h4 => gj_neg h4 ?_)
  · exact gx_vret C hQ hr dX23_sees_30
  · refine gx_aload_n C dX23_sees_7 1 rfl ?_
    refine gx_aload_n C dX23_sees_8 0 rfl ?_
    refine gx_gI (O := "BorrowedLives$Counts") (nm := "life") (ds := "I") (fin := true) C E dX23_sees_9 (by decide +kernel) (Or.inl q1260) (fun _ h => h) (fun v9 => ?_)
    refine gx_iald C E dX23_sees_12 (fun v12 => ?_)
    refine gx_aload_n C dX23_sees_13 0 rfl ?_
    refine gx_gI (O := "BorrowedLives$Counts") (nm := "person") (ds := "I") (fin := true) C E dX23_sees_14 (by decide +kernel) (Or.inl q1259) (fun _ h => h) (fun v14 => ?_)
    refine gj_icmp_ne (tgt := 30) C dX23_sees_17 (by decide) rfl rfl (fun h17 => gj_neg h17 ?_) (fun h17 => gj_pos h17 ?_)
    · exact gx_vret C hQ hr dX23_sees_30
    · refine gx_aload_n C dX23_sees_20 0 rfl ?_
      refine gx_dup C dX23_sees_21 ?_
      refine gx_gI (O := "BorrowedLives$Counts") (nm := "hits") (ds := "I") (fin := false) C E dX23_sees_22 (by decide +kernel) (Or.inl q1261) (fun _ h => h) (fun v22 => ?_)
      refine gj_iconst C dX23_sees_25 ?_
      refine gj_iadd C dX23_sees_26 ?_
      refine gx_pI (O := "BorrowedLives$Counts") (nm := "hits") (ds := "I") (fin := false) (ty := .int) C E dX23_sees_27 (by decide +kernel) (Or.inl q1261) (fun _ h => h) (fun h => by cases h) (by decide +kernel) (inty_int _) ?_
      exact gx_vret C hQ hr dX23_sees_30
def x1_copies_b2 (a0 a1 : Option Nat) (a2 : Int) (bk2 : (Int) → PT Hp Unit) : PT Hp Unit :=
  pbnd (xlen a1) fun v4 =>
  pite (w32 a2 < w32 v4) (
    pbnd (xld a0 40 a2) fun v12 =>
    pbnd (xst a1 40 a2 v12) fun _ =>
    bk2 (a2 + 1)) (
    pret ())
def x1_copies_l2 (a0 a1 : Option Nat) (a2 : Int) : PT Hp Unit :=
  ploop (fun (s : (Int)) bk2 => x1_copies_b2 a0 a1 s bk2) (a2)
def x1_copies (a0 a1 : Option Nat) : PT Hp Unit :=
  x1_copies_l2 a0 a1 0
set_option maxHeartbeats 4000000 in
set_option maxRecDepth 100000 in
theorem mx1_copies (l : Launch) (g : XG) (a0 a1 : Option Nat) : XMet l g yX1_copies cX1_copies 3 (Option.none : Option Jvm.ClassFile.FieldType) (0) [rv g a0, rv g a1] (x1_copies a0 a1) rvV := by
  refine gx_start (by decide +kernel) (by have e := lg_sl_len [rv g a0, rv g a1]; simp only [List.map_cons, List.map_nil, List.sum_cons, List.sum_nil, rv_cat, cat_int, cat_long] at e; omega) (fun X Q σ0 hl C E hQ hR hr hnm => ?_)
  subst hl
  rw [show lv_args 0 [rv g a0, rv g a1] = [(0, rv g a0), (1, rv g a1)] from by simp [lv_args, rv_cat, cat_int, cat_long]]
  show GJ X 3 (xWo g σ0 (cx_s X).heap) Q (x1_copies a0 a1) 0 [(0, rv g a0), (1, rv g a1)] []
  have J2 : ∀ (a0 a1 : Option Nat) (a2 : Int), GJ X 3 (xWo g σ0 (cx_s X).heap) Q (x1_copies_l2 a0 a1 a2) 2 [(0, rv g a0), (1, rv g a1), (2, .int (iI a2))] [] := by
    intro a0 a1 a2
    unfold x1_copies_l2
    refine gj_loop (fun (s : (Int)) => [(0, rv g a0), (1, rv g a1), (2, .int (iI s))]) (a2) (fun bk2 hb2 s => ?_)
    obtain ⟨a2, rfl⟩ : ∃ z, z = s := ⟨s, rfl⟩
    show GJ X 3 (xWo g σ0 (cx_s X).heap) Q (x1_copies_b2 a0 a1 a2 bk2) 2 [(0, rv g a0), (1, rv g a1), (2, .int (iI a2))] []
    unfold x1_copies_b2
    refine gj_iload_n C dX1_copies_2 2 rfl ?_
    refine gx_aload_n C dX1_copies_3 1 rfl ?_
    refine gx_len C E dX1_copies_4 (fun v4 => ?_)
    refine gj_icmp_ge (tgt := 20) C dX1_copies_5 (by decide) rfl rfl (fun h5 => gj_neg h5 ?_) (fun h5 => gj_pos h5 ?_)
    · exact gx_vret C hQ hr dX1_copies_20
    · refine gx_aload_n C dX1_copies_8 1 rfl ?_
      refine gj_iload_n C dX1_copies_9 2 rfl ?_
      refine gx_aload_n C dX1_copies_10 0 rfl ?_
      refine gj_iload_n C dX1_copies_11 2 rfl ?_
      refine gx_iald C E dX1_copies_12 (fun v12 => ?_)
      refine gx_iast C E dX1_copies_13 ?_
      refine gj_iinc (L' := [(2, .int (iI ((a2 + 1)))), (0, rv g a0), (1, rv g a1)]) C dX1_copies_14 2 rfl (by decide) (by simp [List.filter, rv_cat, cat_int, cat_long, fin4_3]) ?_
      refine gj_goto (tgt := 2) C dX1_copies_17 (by decide) ?_
      exact gj_to [1, 2, 0] (hb2 (a2 + 1)) rfl
  unfold x1_copies
  refine gj_iconst C dX1_copies_0 ?_
  refine gj_istore_n (L' := [(2, .int (iI 0)), (0, rv g a0), (1, rv g a1)]) C dX1_copies_1 (by decide) (by simp [List.filter, rv_cat, cat_int, cat_long, fin4_3]) ?_
  exact gj_to [1, 2, 0] (J2 a0 a1 0) rfl
def x24_sees (a0 a1 : Option Nat) : PT Hp Unit :=
  pbnd (xgI a0 20 0) fun v1 =>
  pbnd (xgI a0 20 2) fun v5 =>
  pite (w32 v1 = w32 ((v5 + 1))) (
    pbnd (xgR a0 20 3) fun v15 =>
    pbnd (x1_copies a1 v15) fun _ =>
    pret ()) (
    pret ())
set_option maxHeartbeats 4000000 in
set_option maxRecDepth 100000 in
theorem mx24_sees (l : Launch) (g : XG) (a0 a1 : Option Nat) : XMet l g yX24_sees cX24_sees 2 (Option.none : Option Jvm.ClassFile.FieldType) (1) [rv g a0, rv g a1] (x24_sees a0 a1) rvV := by
  refine gx_start (by decide +kernel) (by have e := lg_sl_len [rv g a0, rv g a1]; simp only [List.map_cons, List.map_nil, List.sum_cons, List.sum_nil, rv_cat, cat_int, cat_long] at e; omega) (fun X Q σ0 hl C E hQ hR hr hnm => ?_)
  subst hl
  rw [show lv_args 0 [rv g a0, rv g a1] = [(0, rv g a0), (1, rv g a1)] from by simp [lv_args, rv_cat, cat_int, cat_long]]
  show GJ X 2 (xWo g σ0 (cx_s X).heap) Q (x24_sees a0 a1) 0 [(0, rv g a0), (1, rv g a1)] []
  unfold x24_sees
  refine gx_aload_n C dX24_sees_0 0 rfl ?_
  refine gx_gI (O := "BorrowedLives$Looker") (nm := "lots") (ds := "I") (fin := false) C E dX24_sees_1 (by decide +kernel) (Or.inl q1264) (fun x h => u_same (C.2.2.2.2.2 _ q1265) x h) (fun v1 => ?_)
  refine gx_aload_n C dX24_sees_4 0 rfl ?_
  refine gx_gI (O := "BorrowedLives$Takes") (nm := "place") (ds := "I") (fin := true) C E dX24_sees_5 (by decide +kernel) (Or.inl q1475) (fun _ h => h) (fun v5 => ?_)
  refine gj_iconst C dX24_sees_8 ?_
  refine gj_iadd C dX24_sees_9 ?_
  refine gj_icmp_ne (tgt := 21) C dX24_sees_10 (by decide) rfl rfl (fun h10 => gj_neg h10 ?_) (fun h10 => gj_pos h10 ?_)
  · exact gx_vret C hQ hr dX24_sees_21
  · refine gx_aload_n C dX24_sees_13 1 rfl ?_
    refine gx_aload_n C dX24_sees_14 0 rfl ?_
    refine gx_gR (O := "BorrowedLives$Takes") (nm := "taken") (ds := "[I") (fin := true) C E dX24_sees_15 (by decide +kernel) (Or.inl q1477) (fun _ h => h) (fun v15 => ?_)
    refine gx_callSNV (As := [rv g a1, rv g v15]) (rest := []) C E dX24_sees_18 (mx1_copies (cx_l X) g a1 v15) (lw_meth q1312) q125 q1438 q1311 hyx_X1_copies hR (Nat.le_of_ble_eq_true rfl) (by decide) rfl rfl (Nat.zero_le _) ?_
    exact gx_vret C hQ hr dX24_sees_21
def x3_sign (a0 : Option Nat) : PT Hp Int :=
  pbnd (xgI a0 3 2) fun v1 =>
  pite (w32 v1 < 0) (
    pret 50) (
    pbnd (xgI a0 3 2) fun v13 =>
    pret v13)
set_option maxHeartbeats 4000000 in
set_option maxRecDepth 100000 in
theorem mx3_sign (l : Launch) (g : XG) (a0 : Option Nat) : XMet l g yX3_sign cX3_sign 1 (Option.some Jvm.ClassFile.FieldType.int) (0) [rv g a0] (x3_sign a0) rvI := by
  refine gx_start (by decide +kernel) (by have e := lg_sl_len [rv g a0]; simp only [List.map_cons, List.map_nil, List.sum_cons, List.sum_nil, rv_cat, cat_int, cat_long] at e; omega) (fun X Q σ0 hl C E hQ hR hr hnm => ?_)
  subst hl
  rw [show lv_args 0 [rv g a0] = [(0, rv g a0)] from by simp [lv_args, rv_cat, cat_int, cat_long]]
  show GJ X 1 (xWo g σ0 (cx_s X).heap) Q (x3_sign a0) 0 [(0, rv g a0)] []
  unfold x3_sign
  refine gx_aload_n C dX3_sign_0 0 rfl ?_
  refine gx_gI (O := "BorrowedLives$Town") (nm := "sign") (ds := "I") (fin := false) C E dX3_sign_1 (by decide +kernel) (Or.inl q257) (fun _ h => h) (fun v1 => ?_)
  refine gj_if_ge (tgt := 12) C dX3_sign_4 (by decide) (fun h4 => gj_neg h4 ?_) (fun h4 => gj_pos h4 ?_)
  · refine gx_aload_n C dX3_sign_12 0 rfl ?_
    refine gx_gI (O := "BorrowedLives$Town") (nm := "sign") (ds := "I") (fin := false) C E dX3_sign_13 (by decide +kernel) (Or.inl q257) (fun _ h => h) (fun v13 => ?_)
    exact gx_iret C hQ hr dX3_sign_16
  · refine gj_bipush C dX3_sign_7 rfl ?_
    refine gj_goto (tgt := 16) C dX3_sign_9 (by decide) ?_
    exact gx_iret C hQ hr dX3_sign_16
def x4_be (a0 a1 : Option Nat) : PT Hp Unit :=
  pbnd (xgR a1 4 0) fun v1 =>
  pbnd (xgR a0 4 0) fun v5 =>
  pbnd (x1_copies v1 v5) fun _ =>
  pbnd (xgR a1 4 1) fun v12 =>
  pbnd (xgR a0 4 1) fun v16 =>
  pbnd (x1_copies v12 v16) fun _ =>
  pbnd (xgR a1 4 2) fun v23 =>
  pbnd (xgR a0 4 2) fun v27 =>
  pbnd (x1_copies v23 v27) fun _ =>
  pbnd (xgR a1 4 3) fun v34 =>
  pbnd (xgR a0 4 3) fun v38 =>
  pbnd (x1_copies v34 v38) fun _ =>
  pbnd (xgR a1 4 4) fun v45 =>
  pbnd (xgR a0 4 4) fun v49 =>
  pbnd (x1_copies v45 v49) fun _ =>
  pbnd (xgR a1 4 5) fun v56 =>
  pbnd (xgR a0 4 5) fun v60 =>
  pbnd (x1_copies v56 v60) fun _ =>
  pbnd (xgR a1 4 6) fun v67 =>
  pbnd (xgR a0 4 6) fun v71 =>
  pbnd (x1_copies v67 v71) fun _ =>
  pbnd (xgI a1 4 7) fun v79 =>
  pbnd (pzo v79) fun _ =>
  pbnd (xpI a0 4 7 v79) fun _ =>
  pbnd (xgI a1 4 8) fun v87 =>
  pbnd (xpI a0 4 8 v87) fun _ =>
  pbnd (xgI a1 4 9) fun v95 =>
  pbnd (xpI a0 4 9 v95) fun _ =>
  pbnd (xgI a1 4 10) fun v103 =>
  pbnd (xpI a0 4 10 v103) fun _ =>
  pret ()
set_option maxHeartbeats 4000000 in
set_option maxRecDepth 100000 in
theorem mx4_be (l : Launch) (g : XG) (a0 a1 : Option Nat) : XMet l g yX4_be cX4_be 2 (Option.none : Option Jvm.ClassFile.FieldType) (1) [rv g a0, rv g a1] (x4_be a0 a1) rvV := by
  refine gx_start (by decide +kernel) (by have e := lg_sl_len [rv g a0, rv g a1]; simp only [List.map_cons, List.map_nil, List.sum_cons, List.sum_nil, rv_cat, cat_int, cat_long] at e; omega) (fun X Q σ0 hl C E hQ hR hr hnm => ?_)
  subst hl
  rw [show lv_args 0 [rv g a0, rv g a1] = [(0, rv g a0), (1, rv g a1)] from by simp [lv_args, rv_cat, cat_int, cat_long]]
  show GJ X 2 (xWo g σ0 (cx_s X).heap) Q (x4_be a0 a1) 0 [(0, rv g a0), (1, rv g a1)] []
  unfold x4_be
  refine gx_aload_n C dX4_be_0 1 rfl ?_
  refine gx_gR (O := "BorrowedLives$State") (nm := "purse") (ds := "[I") (fin := true) C E dX4_be_1 (by decide +kernel) (Or.inl q290) (fun _ h => h) (fun v1 => ?_)
  refine gx_aload_n C dX4_be_4 0 rfl ?_
  refine gx_gR (O := "BorrowedLives$State") (nm := "purse") (ds := "[I") (fin := true) C E dX4_be_5 (by decide +kernel) (Or.inl q290) (fun _ h => h) (fun v5 => ?_)
  refine gx_callSNV (As := [rv g v1, rv g v5]) (rest := []) C E dX4_be_8 (mx1_copies (cx_l X) g v1 v5) (lw_meth q1312) q125 q1310 q1311 hyx_X1_copies hR (Nat.le_of_ble_eq_true rfl) (by decide) rfl rfl (Nat.zero_le _) ?_
  refine gx_aload_n C dX4_be_11 1 rfl ?_
  refine gx_gR (O := "BorrowedLives$State") (nm := "debt") (ds := "[I") (fin := true) C E dX4_be_12 (by decide +kernel) (Or.inl q293) (fun _ h => h) (fun v12 => ?_)
  refine gx_aload_n C dX4_be_15 0 rfl ?_
  refine gx_gR (O := "BorrowedLives$State") (nm := "debt") (ds := "[I") (fin := true) C E dX4_be_16 (by decide +kernel) (Or.inl q293) (fun _ h => h) (fun v16 => ?_)
  refine gx_callSNV (As := [rv g v12, rv g v16]) (rest := []) C E dX4_be_19 (mx1_copies (cx_l X) g v12 v16) (lw_meth q1312) q125 q1310 q1311 hyx_X1_copies hR (Nat.le_of_ble_eq_true rfl) (by decide) rfl rfl (Nat.zero_le _) ?_
  refine gx_aload_n C dX4_be_22 1 rfl ?_
  refine gx_gR (O := "BorrowedLives$State") (nm := "home") (ds := "[I") (fin := true) C E dX4_be_23 (by decide +kernel) (Or.inl q295) (fun _ h => h) (fun v23 => ?_)
  refine gx_aload_n C dX4_be_26 0 rfl ?_
  refine gx_gR (O := "BorrowedLives$State") (nm := "home") (ds := "[I") (fin := true) C E dX4_be_27 (by decide +kernel) (Or.inl q295) (fun _ h => h) (fun v27 => ?_)
  refine gx_callSNV (As := [rv g v23, rv g v27]) (rest := []) C E dX4_be_30 (mx1_copies (cx_l X) g v23 v27) (lw_meth q1312) q125 q1310 q1311 hyx_X1_copies hR (Nat.le_of_ble_eq_true rfl) (by decide) rfl rfl (Nat.zero_le _) ?_
  refine gx_aload_n C dX4_be_33 1 rfl ?_
  refine gx_gR (O := "BorrowedLives$State") (nm := "hidden") (ds := "[I") (fin := true) C E dX4_be_34 (by decide +kernel) (Or.inl q297) (fun _ h => h) (fun v34 => ?_)
  refine gx_aload_n C dX4_be_37 0 rfl ?_
  refine gx_gR (O := "BorrowedLives$State") (nm := "hidden") (ds := "[I") (fin := true) C E dX4_be_38 (by decide +kernel) (Or.inl q297) (fun _ h => h) (fun v38 => ?_)
  refine gx_callSNV (As := [rv g v34, rv g v38]) (rest := []) C E dX4_be_41 (mx1_copies (cx_l X) g v34 v38) (lw_meth q1312) q125 q1310 q1311 hyx_X1_copies hR (Nat.le_of_ble_eq_true rfl) (by decide) rfl rfl (Nat.zero_le _) ?_
  refine gx_aload_n C dX4_be_44 1 rfl ?_
  refine gx_gR (O := "BorrowedLives$State") (nm := "had") (ds := "[I") (fin := true) C E dX4_be_45 (by decide +kernel) (Or.inl q300) (fun _ h => h) (fun v45 => ?_)
  refine gx_aload_n C dX4_be_48 0 rfl ?_
  refine gx_gR (O := "BorrowedLives$State") (nm := "had") (ds := "[I") (fin := true) C E dX4_be_49 (by decide +kernel) (Or.inl q300) (fun _ h => h) (fun v49 => ?_)
  refine gx_callSNV (As := [rv g v45, rv g v49]) (rest := []) C E dX4_be_52 (mx1_copies (cx_l X) g v45 v49) (lw_meth q1312) q125 q1310 q1311 hyx_X1_copies hR (Nat.le_of_ble_eq_true rfl) (by decide) rfl rfl (Nat.zero_le _) ?_
  refine gx_aload_n C dX4_be_55 1 rfl ?_
  refine gx_gR (O := "BorrowedLives$State") (nm := "neat") (ds := "[I") (fin := true) C E dX4_be_56 (by decide +kernel) (Or.inl q301) (fun _ h => h) (fun v56 => ?_)
  refine gx_aload_n C dX4_be_59 0 rfl ?_
  refine gx_gR (O := "BorrowedLives$State") (nm := "neat") (ds := "[I") (fin := true) C E dX4_be_60 (by decide +kernel) (Or.inl q301) (fun _ h => h) (fun v60 => ?_)
  refine gx_callSNV (As := [rv g v56, rv g v60]) (rest := []) C E dX4_be_63 (mx1_copies (cx_l X) g v56 v60) (lw_meth q1312) q125 q1310 q1311 hyx_X1_copies hR (Nat.le_of_ble_eq_true rfl) (by decide) rfl rfl (Nat.zero_le _) ?_
  refine gx_aload_n C dX4_be_66 1 rfl ?_
  refine gx_gR (O := "BorrowedLives$State") (nm := "self") (ds := "[I") (fin := true) C E dX4_be_67 (by decide +kernel) (Or.inl q302) (fun _ h => h) (fun v67 => ?_)
  refine gx_aload_n C dX4_be_70 0 rfl ?_
  refine gx_gR (O := "BorrowedLives$State") (nm := "self") (ds := "[I") (fin := true) C E dX4_be_71 (by decide +kernel) (Or.inl q302) (fun _ h => h) (fun v71 => ?_)
  refine gx_callSNV (As := [rv g v67, rv g v71]) (rest := []) C E dX4_be_74 (mx1_copies (cx_l X) g v67 v71) (lw_meth q1312) q125 q1310 q1311 hyx_X1_copies hR (Nat.le_of_ble_eq_true rfl) (by decide) rfl rfl (Nat.zero_le _) ?_
  refine gx_aload_n C dX4_be_77 0 rfl ?_
  refine gx_aload_n C dX4_be_78 1 rfl ?_
  refine gx_gI (O := "BorrowedLives$State") (nm := "away") (ds := "Z") (fin := false) C E dX4_be_79 (by decide +kernel) (Or.inl q308) (fun _ h => h) (fun v79 => ?_)
  refine gx_pzo (fun hz82 => ?_)
  refine gx_pI (O := "BorrowedLives$State") (nm := "away") (ds := "Z") (fin := false) (ty := .boolean) C E dX4_be_82 (by decide +kernel) (Or.inl q308) (fun _ h => h) (fun h => by cases h) (by decide +kernel) (inty_z hz82) ?_
  refine gx_aload_n C dX4_be_85 0 rfl ?_
  refine gx_aload_n C dX4_be_86 1 rfl ?_
  refine gx_gI (O := "BorrowedLives$State") (nm := "days") (ds := "I") (fin := false) C E dX4_be_87 (by decide +kernel) (Or.inl q311) (fun _ h => h) (fun v87 => ?_)
  refine gx_pI (O := "BorrowedLives$State") (nm := "days") (ds := "I") (fin := false) (ty := .int) C E dX4_be_90 (by decide +kernel) (Or.inl q311) (fun _ h => h) (fun h => by cases h) (by decide +kernel) (inty_int _) ?_
  refine gx_aload_n C dX4_be_93 0 rfl ?_
  refine gx_aload_n C dX4_be_94 1 rfl ?_
  refine gx_gI (O := "BorrowedLives$State") (nm := "homes") (ds := "I") (fin := false) C E dX4_be_95 (by decide +kernel) (Or.inl q313) (fun _ h => h) (fun v95 => ?_)
  refine gx_pI (O := "BorrowedLives$State") (nm := "homes") (ds := "I") (fin := false) (ty := .int) C E dX4_be_98 (by decide +kernel) (Or.inl q313) (fun _ h => h) (fun h => by cases h) (by decide +kernel) (inty_int _) ?_
  refine gx_aload_n C dX4_be_101 0 rfl ?_
  refine gx_aload_n C dX4_be_102 1 rfl ?_
  refine gx_gI (O := "BorrowedLives$State") (nm := "harm") (ds := "I") (fin := false) C E dX4_be_103 (by decide +kernel) (Or.inl q315) (fun _ h => h) (fun v103 => ?_)
  refine gx_pI (O := "BorrowedLives$State") (nm := "harm") (ds := "I") (fin := false) (ty := .int) C E dX4_be_106 (by decide +kernel) (Or.inl q315) (fun _ h => h) (fun h => by cases h) (by decide +kernel) (inty_int _) ?_
  exact gx_vret C hQ hr dX4_be_109
def x4_goes_b2 (a0 a1 : Option Nat) (a2 : Int) (bk2 : (Int) → PT Hp Unit) : PT Hp Unit :=
  pite (w32 a2 < 6) (
    pbnd (xgR a0 4 6) fun v9 =>
    pbnd (xld a1 40 a2) fun v15 =>
    pbnd (xst v9 40 a2 v15) fun _ =>
    pbnd (xgR a0 4 4) fun v18 =>
    pbnd (xgR a0 4 0) fun v23 =>
    pbnd (xld v23 40 a2) fun v27 =>
    pbnd (xgR a0 4 1) fun v29 =>
    pbnd (xld v29 40 a2) fun v33 =>
    pbnd (xst v18 40 a2 (v27 - v33)) fun _ =>
    pbnd (xgR a0 4 5) fun v37 =>
    pbnd (xgR a0 4 2) fun v42 =>
    pbnd (xld v42 40 a2) fun v46 =>
    pbnd (xst v37 40 a2 v46) fun _ =>
    bk2 (a2 + 1)) (
    pbnd (pzo 1) fun _ =>
    pbnd (xpI a0 4 7 1) fun _ =>
    pbnd (xpI a0 4 8 0) fun _ =>
    pret ())
def x4_goes_l2 (a0 a1 : Option Nat) (a2 : Int) : PT Hp Unit :=
  ploop (fun (s : (Int)) bk2 => x4_goes_b2 a0 a1 s bk2) (a2)
def x4_goes (a0 a1 : Option Nat) : PT Hp Unit :=
  x4_goes_l2 a0 a1 0
set_option maxHeartbeats 4000000 in
set_option maxRecDepth 100000 in
theorem mx4_goes (l : Launch) (g : XG) (a0 a1 : Option Nat) : XMet l g yX4_goes cX4_goes 3 (Option.none : Option Jvm.ClassFile.FieldType) (0) [rv g a0, rv g a1] (x4_goes a0 a1) rvV := by
  refine gx_start (by decide +kernel) (by have e := lg_sl_len [rv g a0, rv g a1]; simp only [List.map_cons, List.map_nil, List.sum_cons, List.sum_nil, rv_cat, cat_int, cat_long] at e; omega) (fun X Q σ0 hl C E hQ hR hr hnm => ?_)
  subst hl
  rw [show lv_args 0 [rv g a0, rv g a1] = [(0, rv g a0), (1, rv g a1)] from by simp [lv_args, rv_cat, cat_int, cat_long]]
  show GJ X 3 (xWo g σ0 (cx_s X).heap) Q (x4_goes a0 a1) 0 [(0, rv g a0), (1, rv g a1)] []
  have J2 : ∀ (a0 a1 : Option Nat) (a2 : Int), GJ X 3 (xWo g σ0 (cx_s X).heap) Q (x4_goes_l2 a0 a1 a2) 2 [(0, rv g a0), (1, rv g a1), (2, .int (iI a2))] [] := by
    intro a0 a1 a2
    unfold x4_goes_l2
    refine gj_loop (fun (s : (Int)) => [(0, rv g a0), (1, rv g a1), (2, .int (iI s))]) (a2) (fun bk2 hb2 s => ?_)
    obtain ⟨a2, rfl⟩ : ∃ z, z = s := ⟨s, rfl⟩
    show GJ X 3 (xWo g σ0 (cx_s X).heap) Q (x4_goes_b2 a0 a1 a2 bk2) 2 [(0, rv g a0), (1, rv g a1), (2, .int (iI a2))] []
    unfold x4_goes_b2
    refine gj_iload_n C dX4_goes_2 2 rfl ?_
    refine gj_bipush C dX4_goes_3 rfl ?_
    refine gj_icmp_ge (tgt := 54) (b' := 6) C dX4_goes_5 (by decide) rfl (by decide) (fun h5 => gj_neg h5 ?_) (fun h5 => gj_pos h5 ?_)
    · refine gx_aload_n C dX4_goes_54 0 rfl ?_
      refine gj_iconst C dX4_goes_55 ?_
      refine gx_pzo (fun hz56 => ?_)
      refine gx_pI (O := "BorrowedLives$State") (nm := "away") (ds := "Z") (fin := false) (ty := .boolean) C E dX4_goes_56 (by decide +kernel) (Or.inl q308) (fun _ h => h) (fun h => by cases h) (by decide +kernel) (inty_z hz56) ?_
      refine gx_aload_n C dX4_goes_59 0 rfl ?_
      refine gj_iconst C dX4_goes_60 ?_
      refine gx_pI (O := "BorrowedLives$State") (nm := "days") (ds := "I") (fin := false) (ty := .int) C E dX4_goes_61 (by decide +kernel) (Or.inl q311) (fun _ h => h) (fun h => by cases h) (by decide +kernel) (inty_int _) ?_
      exact gx_vret C hQ hr dX4_goes_64
    · refine gx_aload_n C dX4_goes_8 0 rfl ?_
      refine gx_gR (O := "BorrowedLives$State") (nm := "self") (ds := "[I") (fin := true) C E dX4_goes_9 (by decide +kernel) (Or.inl q302) (fun _ h => h) (fun v9 => ?_)
      refine gj_iload_n C dX4_goes_12 2 rfl ?_
      refine gx_aload_n C dX4_goes_13 1 rfl ?_
      refine gj_iload_n C dX4_goes_14 2 rfl ?_
      refine gx_iald C E dX4_goes_15 (fun v15 => ?_)
      refine gx_iast C E dX4_goes_16 ?_
      refine gx_aload_n C dX4_goes_17 0 rfl ?_
      refine gx_gR (O := "BorrowedLives$State") (nm := "had") (ds := "[I") (fin := true) C E dX4_goes_18 (by decide +kernel) (Or.inl q300) (fun _ h => h) (fun v18 => ?_)
      refine gj_iload_n C dX4_goes_21 2 rfl ?_
      refine gx_aload_n C dX4_goes_22 0 rfl ?_
      refine gx_gR (O := "BorrowedLives$State") (nm := "purse") (ds := "[I") (fin := true) C E dX4_goes_23 (by decide +kernel) (Or.inl q290) (fun _ h => h) (fun v23 => ?_)
      refine gj_iload_n C dX4_goes_26 2 rfl ?_
      refine gx_iald C E dX4_goes_27 (fun v27 => ?_)
      refine gx_aload_n C dX4_goes_28 0 rfl ?_
      refine gx_gR (O := "BorrowedLives$State") (nm := "debt") (ds := "[I") (fin := true) C E dX4_goes_29 (by decide +kernel) (Or.inl q293) (fun _ h => h) (fun v29 => ?_)
      refine gj_iload_n C dX4_goes_32 2 rfl ?_
      refine gx_iald C E dX4_goes_33 (fun v33 => ?_)
      refine gj_isub C dX4_goes_34 ?_
      refine gx_iast C E dX4_goes_35 ?_
      refine gx_aload_n C dX4_goes_36 0 rfl ?_
      refine gx_gR (O := "BorrowedLives$State") (nm := "neat") (ds := "[I") (fin := true) C E dX4_goes_37 (by decide +kernel) (Or.inl q301) (fun _ h => h) (fun v37 => ?_)
      refine gj_iload_n C dX4_goes_40 2 rfl ?_
      refine gx_aload_n C dX4_goes_41 0 rfl ?_
      refine gx_gR (O := "BorrowedLives$State") (nm := "home") (ds := "[I") (fin := true) C E dX4_goes_42 (by decide +kernel) (Or.inl q295) (fun _ h => h) (fun v42 => ?_)
      refine gj_iload_n C dX4_goes_45 2 rfl ?_
      refine gx_iald C E dX4_goes_46 (fun v46 => ?_)
      refine gx_iast C E dX4_goes_47 ?_
      refine gj_iinc (L' := [(2, .int (iI ((a2 + 1)))), (0, rv g a0), (1, rv g a1)]) C dX4_goes_48 2 rfl (by decide) (by simp [List.filter, rv_cat, cat_int, cat_long, fin4_3]) ?_
      refine gj_goto (tgt := 2) C dX4_goes_51 (by decide) ?_
      exact gj_to [1, 2, 0] (hb2 (a2 + 1)) rfl
  unfold x4_goes
  refine gj_iconst C dX4_goes_0 ?_
  refine gj_istore_n (L' := [(2, .int (iI 0)), (0, rv g a0), (1, rv g a1)]) C dX4_goes_1 (by decide) (by simp [List.filter, rv_cat, cat_int, cat_long, fin4_3]) ?_
  exact gj_to [1, 2, 0] (J2 a0 a1 0) rfl
