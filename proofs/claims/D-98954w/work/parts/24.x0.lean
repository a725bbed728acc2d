/-! THE COMPONENT: its methods as pure programs, and that the machine runs so (J2.size, X1.people, X1.in, X1.isPerson, X1.need, X1.power, X1.copies, X4.be, J4.checkIndex, J3.checkIndex, J2.elementData, J2.get, X1.person_2, X1.deedIn, X4.gets, X1.does, X10.kind, X7.kind, X8.kind, X9.kind, X1.lays, X12.worked, X13.worked, X15.worked, X1.goodOf, X1.deeds, X0.deeds, X1.gets, X1.isRest): printed by genx.py -/
def j2_size (a0 : Option Nat) : PT Hp Int :=
  pbnd (xgI a0 26 2) fun v1 =>
  pret v1
set_option maxHeartbeats 4000000 in
set_option maxRecDepth 100000 in
theorem mj2_size (l : Launch) (g : XG) (a0 : Option Nat) : XMet l g yJ2_size cJ2_size 1 (Option.some Jvm.ClassFile.FieldType.int) (0) [rv g a0] (j2_size a0) rvI := by
  refine gx_start (by decide +kernel) (by have e := lg_sl_len [rv g a0]; simp only [List.map_cons, List.map_nil, List.sum_cons, List.sum_nil, rv_cat, cat_int, cat_long] at e; omega) (fun X Q σ0 hl C E hQ hR hr hnm => ?_)
  subst hl
  rw [show lv_args 0 [rv g a0] = [(0, rv g a0)] from by simp [lv_args, rv_cat, cat_int, cat_long]]
  show GJ X 1 (xWo g σ0 (cx_s X).heap) Q (j2_size a0) 0 [(0, rv g a0)] []
  unfold j2_size
  refine gx_aload_n C dJ2_size_0 0 rfl ?_
  refine gx_gI (O := "java/util/ArrayList") (nm := "size") (ds := "I") (fin := false) C E dJ2_size_1 (by decide +kernel) (Or.inl q240) (fun _ h => h) (fun v1 => ?_)
  exact gx_iret C hQ hr dJ2_size_4
def x1_people (a0 : Option Nat) : PT Hp Int :=
  pbnd (xgR a0 1 2) fun v1 =>
  pbnd (xgR v1 3 0) fun v4 =>
  pbnd (xrecv v4 26) fun _ =>
  pbnd (j2_size v4) fun v7 =>
  pret v7
set_option maxHeartbeats 4000000 in
set_option maxRecDepth 100000 in
theorem mx1_people (l : Launch) (g : XG) (a0 : Option Nat) : XMet l g yX1_people cX1_people 1 (Option.some Jvm.ClassFile.FieldType.int) (1) [rv g a0] (x1_people a0) rvI := by
  refine gx_start (by decide +kernel) (by have e := lg_sl_len [rv g a0]; simp only [List.map_cons, List.map_nil, List.sum_cons, List.sum_nil, rv_cat, cat_int, cat_long] at e; omega) (fun X Q σ0 hl C E hQ hR hr hnm => ?_)
  subst hl
  rw [show lv_args 0 [rv g a0] = [(0, rv g a0)] from by simp [lv_args, rv_cat, cat_int, cat_long]]
  show GJ X 1 (xWo g σ0 (cx_s X).heap) Q (x1_people a0) 0 [(0, rv g a0)] []
  unfold x1_people
  refine gx_aload_n C dX1_people_0 0 rfl ?_
  refine gx_gR (O := "BorrowedLives") (nm := "town") (ds := "LBorrowedLives$Town;") (fin := false) C E dX1_people_1 (by decide +kernel) (Or.inl q377) (fun _ h => h) (fun v1 => ?_)
  refine gx_gR (O := "BorrowedLives$Town") (nm := "people") (ds := "Ljava/util/ArrayList;") (fin := true) C E dX1_people_4 (by decide +kernel) (Or.inr ⟨_, q253⟩) (fun _ h => h) (fun v4 => ?_)
  refine gx_callVI (t0 := 26) (As := []) (rest := []) C E rfl dX1_people_7 (mj2_size (cx_l X) g v4) (lw_V q1196 q351 q352 q130 q353) hyx_J2_size rfl hR (Nat.le_of_ble_eq_true rfl) (by decide) rfl rfl (Nat.zero_le _) (fun v7 => ?_)
  exact gx_iret C hQ hr dX1_people_10
def x1_in (a0 a1 a2 : Int) : PT Hp Int :=
  plet (if w32 a0 < w32 a1 then 0 else if w32 a2 < w32 a0 then 0 else 1) fun d15 =>
  pbnd (pzo d15) fun _ => pret d15
set_option maxHeartbeats 4000000 in
set_option maxRecDepth 100000 in
theorem mx1_in (l : Launch) (g : XG) (a0 a1 a2 : Int) : XMet l g yX1_in cX1_in 3 (Option.some Jvm.ClassFile.FieldType.boolean) (0) [.int (iI a0), .int (iI a1), .int (iI a2)] (x1_in a0 a1 a2) rvI := by
  refine gx_start (by decide +kernel) (by have e := lg_sl_len [.int (iI a0), .int (iI a1), .int (iI a2)]; simp only [List.map_cons, List.map_nil, List.sum_cons, List.sum_nil, rv_cat, cat_int, cat_long] at e; omega) (fun X Q σ0 hl C E hQ hR hr hnm => ?_)
  subst hl
  show GJ X 3 (xWo g σ0 (cx_s X).heap) Q (x1_in a0 a1 a2) 0 [(0, .int (iI a0)), (1, .int (iI a1)), (2, .int (iI a2))] []
  unfold x1_in
  refine gj_iload_n C dX1_in_0 0 rfl ?_
  refine gj_iload_n C dX1_in_1 1 rfl ?_
  refine gj_dia (J := 15) (L := [(0, .int (iI a0)), (1, .int (iI a1)), (2, .int (iI a2))]) (st := []) (fun d15 => ?_) (fun t hJ => ?_)
  · skip
    exact gx_zret C hQ hr dX1_in_15
  · refine gj_icmp_lt (tgt := 14) C dX1_in_2 (by decide) rfl rfl (fun h2 => ?_) (fun h2 => ?_)
    · refine gj_iconst C dX1_in_14 ?_
      exact (by rw [if_pos h2] at hJ; exact hJ)
    · refine gj_iload_n C dX1_in_5 0 rfl ?_
      refine gj_iload_n C dX1_in_6 2 rfl ?_
      refine gj_icmp_gt (tgt := 14) C dX1_in_7 (by decide) rfl rfl (fun h7 => ?_) (fun h7 => ?_)
      · refine gj_iconst C dX1_in_14 ?_
        exact (by rw [if_neg h2, if_pos h7] at hJ; exact hJ)
      · refine gj_iconst C dX1_in_10 ?_
        refine gj_goto (tgt := 15) C dX1_in_11 (by decide) ?_
        exact (by rw [if_neg h2, if_neg h7] at hJ; exact hJ)
def x1_isPerson (a0 : Option Nat) (a1 : Int) : PT Hp Int :=
  pbnd (xrecv a0 1) fun _ =>
  pbnd (x1_people a0) fun v3 =>
  pbnd (x1_in a1 0 (v3 - 1)) fun v8 =>
  pbnd (pzo v8) fun _ => pret v8
set_option maxHeartbeats 4000000 in
set_option maxRecDepth 100000 in
theorem mx1_isPerson (l : Launch) (g : XG) (a0 : Option Nat) (a1 : Int) : XMet l g yX1_isPerson cX1_isPerson 2 (Option.some Jvm.ClassFile.FieldType.boolean) (2) [rv g a0, .int (iI a1)] (x1_isPerson a0 a1) rvI := by
  refine gx_start (by decide +kernel) (by have e := lg_sl_len [rv g a0, .int (iI a1)]; simp only [List.map_cons, List.map_nil, List.sum_cons, List.sum_nil, rv_cat, cat_int, cat_long] at e; omega) (fun X Q σ0 hl C E hQ hR hr hnm => ?_)
  subst hl
  rw [show lv_args 0 [rv g a0, .int (iI a1)] = [(0, rv g a0), (1, .int (iI a1))] from by simp [lv_args, rv_cat, cat_int, cat_long]]
  show GJ X 2 (xWo g σ0 (cx_s X).heap) Q (x1_isPerson a0 a1) 0 [(0, rv g a0), (1, .int (iI a1))] []
  unfold x1_isPerson
  refine gj_iload_n C dX1_isPerson_0 1 rfl ?_
  refine gj_iconst C dX1_isPerson_1 ?_
  refine gx_aload_n C dX1_isPerson_2 0 rfl ?_
  refine gx_callVI (t0 := 1) (As := []) (rest := [.int (iI 0), .int (iI a1)]) C E rfl dX1_isPerson_3 (mx1_people (cx_l X) g a0) (lw_V q1192 q1194 qs29 q125 q1195) hyx_X1_people rfl hR (Nat.le_of_ble_eq_true rfl) (by decide) rfl rfl (Nat.le_of_ble_eq_true rfl) (fun v3 => ?_)
  refine gj_iconst C dX1_isPerson_6 ?_
  refine gj_isub C dX1_isPerson_7 ?_
  refine gx_callSI (As := [.int (iI a1), .int (iI 0), .int (iI ((v3 - 1)))]) (rest := []) C E dX1_isPerson_8 (mx1_in (cx_l X) g a1 0 (v3 - 1)) (lw_S q1197 q1198 q125 q1199) hyx_X1_in hR (Nat.le_of_ble_eq_true rfl) (by decide) rfl rfl (Nat.zero_le _) (fun v8 => ?_)
  exact gx_zret C hQ hr dX1_isPerson_11
def x1_need (a0 : Int) : XT Hp Unit :=
  pite (w32 a0 = 0) (
    xthrow0) (
    xret ())
set_option maxHeartbeats 4000000 in
set_option maxRecDepth 100000 in
theorem mx1_need (l : Launch) (g : XG) (hst : l.stackTraces = false) (a0 : Int) : XMetX l g nse yX1_need cX1_need 1 (Option.none : Option Jvm.ClassFile.FieldType) (11) [.int (iI a0)] (x1_need a0) rvV := by
  refine gy_start (by decide +kernel) (by have e := lg_sl_len [.int (iI a0)]; simp only [List.map_cons, List.map_nil, List.sum_cons, List.sum_nil, rv_cat, cat_int, cat_long] at e; omega) (fun X Q σ0 hl C E hQ hR hr hX => ?_)
  subst hl
  show GJ X 1 (xWo g σ0 (cx_s X).heap) Q (x1_need a0) 0 [(0, .int (iI a0))] []
  unfold x1_need
  refine gj_iload_n C dX1_need_0 0 rfl ?_
  refine gj_if_ne (tgt := 12) C dX1_need_1 (by decide) (fun h1 => gj_neg h1 ?_) (fun h1 => gj_pos h1 ?_)
  · exact gy_vret C hQ hr dX1_need_12
  · exact gy_throw0 C E hst hX hQ q1746 q169 dX1_need_4 dX1_need_7 dX1_need_8 dX1_need_11 hR (Nat.le_of_ble_eq_true rfl) (Nat.zero_le _)
def x1_power_b4 (a0 a1 : Int) (a2 a3 : Int) (bk4 : (Int × Int) → PT Hp Int) : PT Hp Int :=
  pite (w32 a3 < w32 a1) (
    plet (a2 * a0) fun x12 =>
    bk4 (x12, a3 + 1)) (
    pret (w32 a2))
def x1_power_l4 (a0 a1 a2 a3 : Int) : PT Hp Int :=
  ploop (fun (s : (Int × Int)) bk4 => x1_power_b4 a0 a1 s.1 s.2 bk4) (a2, a3)
def x1_power (a0 a1 : Int) : PT Hp Int :=
  x1_power_l4 a0 a1 1 0
set_option maxHeartbeats 4000000 in
set_option maxRecDepth 100000 in
theorem mx1_power (l : Launch) (g : XG) (a0 a1 : Int) : XMet l g yX1_power cX1_power 4 (Option.some Jvm.ClassFile.FieldType.int) (0) [.int (iI a0), .int (iI a1)] (x1_power a0 a1) rvI := by
  refine gx_start (by decide +kernel) (by have e := lg_sl_len [.int (iI a0), .int (iI a1)]; simp only [List.map_cons, List.map_nil, List.sum_cons, List.sum_nil, rv_cat, cat_int, cat_long] at e; omega) (fun X Q σ0 hl C E hQ hR hr hnm => ?_)
  subst hl
  show GJ X 4 (xWo g σ0 (cx_s X).heap) Q (x1_power a0 a1) 0 [(0, .int (iI a0)), (1, .int (iI a1))] []
  have J4 : ∀ (a0 a1 a2 a3 : Int), GJ X 4 (xWo g σ0 (cx_s X).heap) Q (x1_power_l4 a0 a1 a2 a3) 4 [(0, .int (iI a0)), (1, .int (iI a1)), (2, .int (iI a2)), (3, .int (iI a3))] [] := by
    intro a0 a1 a2 a3
    unfold x1_power_l4
    refine gj_loop (fun (s : (Int × Int)) => [(0, .int (iI a0)), (1, .int (iI a1)), (2, .int (iI (s.1))), (3, .int (iI (s.2)))]) (a2, a3) (fun bk4 hb4 s => ?_)
    obtain ⟨a2, a3⟩ := s
    show GJ X 4 (xWo g σ0 (cx_s X).heap) Q (x1_power_b4 a0 a1 a2 a3 bk4) 4 [(0, .int (iI a0)), (1, .int (iI a1)), (2, .int (iI a2)), (3, .int (iI a3))] []
    unfold x1_power_b4
    refine gj_iload_n C dX1_power_4 3 rfl ?_
    refine gj_iload_n C dX1_power_5 1 rfl ?_
    refine gj_icmp_ge (tgt := 19) C dX1_power_6 (by decide) rfl rfl (fun h6 => gj_neg h6 ?_) (fun h6 => gj_pos h6 ?_)
    · refine gj_iload_n C dX1_power_19 2 rfl ?_
      refine gj_nrmI ?_
      exact gx_iret C hQ hr dX1_power_20
    · refine gj_iload_n C dX1_power_9 2 rfl ?_
      refine gj_iload_n C dX1_power_10 0 rfl ?_
      refine gj_imul C dX1_power_11 ?_
      refine gj_let (fun x12 => ?_)
      refine gj_istore_n (L' := [(2, _), (0, _), (1, _), (3, _)]) C dX1_power_12 (by decide) rfl ?_
      refine gj_iinc (L' := [(3, _), (2, _), (0, _), (1, _)]) C dX1_power_13 3 rfl (by decide) rfl ?_
      refine gj_goto (tgt := 4) C dX1_power_16 (by decide) ?_
      exact gj_to [2, 3, 1, 0] (hb4 (x12, a3 + 1)) rfl
  unfold x1_power
  refine gj_iconst C dX1_power_0 ?_
  refine gj_istore_n (L' := [(2, _), (0, _), (1, _)]) C dX1_power_1 (by decide) rfl ?_
  refine gj_iconst C dX1_power_2 ?_
  refine gj_istore_n (L' := [(3, _), (2, _), (0, _), (1, _)]) C dX1_power_3 (by decide) rfl ?_
  exact gj_to [2, 3, 1, 0] (J4 a0 a1 1 0) rfl
def x1_copies_b2 (a0 a1 : Option Nat) (a2 : Int) (bk2 : (Int) → PT Hp Unit) : PT Hp Unit :=
  pbnd (xlen a1) fun v4 =>
  pite (w32 a2 < w32 v4) (
    pbnd (xld a0 40 a2) fun v12 =>
    pbnd (xst a1 40 a2 v12) fun _ =>
    bk2 (a2 + 1)) (
    pret ())
def x1_copies_l2 (a0 a1 : Option Nat) (a2 : Int) : PT Hp Unit :=
  ploop (fun (s : (Int)) bk2 => x1_copies_b2 a0 a1 s bk2) (a2)
def x1_copies (a0 a1 : Option Nat) : PT Hp Unit :=
  x1_copies_l2 a0 a1 0
set_option maxHeartbeats 4000000 in
set_option maxRecDepth 100000 in
theorem mx1_copies (l : Launch) (g : XG) (a0 a1 : Option Nat) : XMet l g yX1_copies cX1_copies 3 (Option.none : Option Jvm.ClassFile.FieldType) (0) [rv g a0, rv g a1] (x1_copies a0 a1) rvV := by
  refine gx_start (by decide +kernel) (by have e := lg_sl_len [rv g a0, rv g a1]; simp only [List.map_cons, List.map_nil, List.sum_cons, List.sum_nil, rv_cat, cat_int, cat_long] at e; omega) (fun X Q σ0 hl C E hQ hR hr hnm => ?_)
  subst hl
  rw [show lv_args 0 [rv g a0, rv g a1] = [(0, rv g a0), (1, rv g a1)] from by simp [lv_args, rv_cat, cat_int, cat_long]]
  show GJ X 3 (xWo g σ0 (cx_s X).heap) Q (x1_copies a0 a1) 0 [(0, rv g a0), (1, rv g a1)] []
  have J2 : ∀ (a0 a1 : Option Nat) (a2 : Int), GJ X 3 (xWo g σ0 (cx_s X).heap) Q (x1_copies_l2 a0 a1 a2) 2 [(0, rv g a0), (1, rv g a1), (2, .int (iI a2))] [] := by
    intro a0 a1 a2
    unfold x1_copies_l2
    refine gj_loop (fun (s : (Int)) => [(0, rv g a0), (1, rv g a1), (2, .int (iI s))]) (a2) (fun bk2 hb2 s => ?_)
    obtain ⟨a2, rfl⟩ : ∃ z, z = s := ⟨s, rfl⟩
    show GJ X 3 (xWo g σ0 (cx_s X).heap) Q (x1_copies_b2 a0 a1 a2 bk2) 2 [(0, rv g a0), (1, rv g a1), (2, .int (iI a2))] []
    unfold x1_copies_b2
    refine gj_iload_n C dX1_copies_2 2 rfl ?_
    refine gx_aload_n C dX1_copies_3 1 rfl ?_
    refine gx_len C E dX1_copies_4 (fun v4 => ?_)
    refine gj_icmp_ge (tgt := 20) C dX1_copies_5 (by decide) rfl rfl (fun h5 => gj_neg h5 ?_) (fun h5 => gj_pos h5 ?_)
    · exact gx_vret C hQ hr dX1_copies_20
    · refine gx_aload_n C dX1_copies_8 1 rfl ?_
      refine gj_iload_n C dX1_copies_9 2 rfl ?_
      refine gx_aload_n C dX1_copies_10 0 rfl ?_
      refine gj_iload_n C dX1_copies_11 2 rfl ?_
      refine gx_iald C E dX1_copies_12 (fun v12 => ?_)
      refine gx_iast C E dX1_copies_13 ?_
      refine gj_iinc (L' := [(2, .int (iI ((a2 + 1)))), (0, rv g a0), (1, rv g a1)]) C dX1_copies_14 2 rfl (by decide) (by simp [List.filter, rv_cat, cat_int, cat_long, fin4_3]) ?_
      refine gj_goto (tgt := 2) C dX1_copies_17 (by decide) ?_
      exact gj_to [1, 2, 0] (hb2 (a2 + 1)) rfl
  unfold x1_copies
  refine gj_iconst C dX1_copies_0 ?_
  refine gj_istore_n (L' := [(2, .int (iI 0)), (0, rv g a0), (1, rv g a1)]) C dX1_copies_1 (by decide) (by simp [List.filter, rv_cat, cat_int, cat_long, fin4_3]) ?_
  exact gj_to [1, 2, 0] (J2 a0 a1 0) rfl
def x4_be (a0 a1 : Option Nat) : PT Hp Unit :=
  pbnd (xgR a1 4 0) fun v1 =>
  pbnd (xgR a0 4 0) fun v5 =>
  pbnd (x1_copies v1 v5) fun _ =>
  pbnd (xgR a1 4 1) fun v12 =>
  pbnd (xgR a0 4 1) fun v16 =>
  pbnd (x1_copies v12 v16) fun _ =>
  pbnd (xgR a1 4 2) fun v23 =>
  pbnd (xgR a0 4 2) fun v27 =>
  pbnd (x1_copies v23 v27) fun _ =>
  pbnd (xgR a1 4 3) fun v34 =>
  pbnd (xgR a0 4 3) fun v38 =>
  pbnd (x1_copies v34 v38) fun _ =>
  pbnd (xgR a1 4 4) fun v45 =>
  pbnd (xgR a0 4 4) fun v49 =>
  pbnd (x1_copies v45 v49) fun _ =>
  pbnd (xgR a1 4 5) fun v56 =>
  pbnd (xgR a0 4 5) fun v60 =>
  pbnd (x1_copies v56 v60) fun _ =>
  pbnd (xgR a1 4 6) fun v67 =>
  pbnd (xgR a0 4 6) fun v71 =>
  pbnd (x1_copies v67 v71) fun _ =>
  pbnd (xgI a1 4 7) fun v79 =>
  pbnd (pzo v79) fun _ =>
  pbnd (xpI a0 4 7 v79) fun _ =>
  pbnd (xgI a1 4 8) fun v87 =>
  pbnd (xpI a0 4 8 v87) fun _ =>
  pbnd (xgI a1 4 9) fun v95 =>
  pbnd (xpI a0 4 9 v95) fun _ =>
  pbnd (xgI a1 4 10) fun v103 =>
  pbnd (xpI a0 4 10 v103) fun _ =>
  pret ()
set_option maxHeartbeats 4000000 in
set_option maxRecDepth 100000 in
theorem mx4_be (l : Launch) (g : XG) (a0 a1 : Option Nat) : XMet l g yX4_be cX4_be 2 (Option.none : Option Jvm.ClassFile.FieldType) (1) [rv g a0, rv g a1] (x4_be a0 a1) rvV := by
  refine gx_start (by decide +kernel) (by have e := lg_sl_len [rv g a0, rv g a1]; simp only [List.map_cons, List.map_nil, List.sum_cons, List.sum_nil, rv_cat, cat_int, cat_long] at e; omega) (fun X Q σ0 hl C E hQ hR hr hnm => ?_)
  subst hl
  rw [show lv_args 0 [rv g a0, rv g a1] = [(0, rv g a0), (1, rv g a1)] from by simp [lv_args, rv_cat, cat_int, cat_long]]
  show GJ X 2 (xWo g σ0 (cx_s X).heap) Q (x4_be a0 a1) 0 [(0, rv g a0), (1, rv g a1)] []
  unfold x4_be
  refine gx_aload_n C dX4_be_0 1 rfl ?_
  refine gx_gR (O := "BorrowedLives$State") (nm := "purse") (ds := "[I") (fin := true) C E dX4_be_1 (by decide +kernel) (Or.inl q290) (fun _ h => h) (fun v1 => ?_)
  refine gx_aload_n C dX4_be_4 0 rfl ?_
  refine gx_gR (O := "BorrowedLives$State") (nm := "purse") (ds := "[I") (fin := true) C E dX4_be_5 (by decide +kernel) (Or.inl q290) (fun _ h => h) (fun v5 => ?_)
  refine gx_callSNV (As := [rv g v1, rv g v5]) (rest := []) C E dX4_be_8 (mx1_copies (cx_l X) g v1 v5) (lw_meth q1312) q125 q1310 q1311 hyx_X1_copies hR (Nat.le_of_ble_eq_true rfl) (by decide) rfl rfl (Nat.zero_le _) ?_
  refine gx_aload_n C dX4_be_11 1 rfl ?_
  refine gx_gR (O := "BorrowedLives$State") (nm := "debt") (ds := "[I") (fin := true) C E dX4_be_12 (by decide +kernel) (Or.inl q293) (fun _ h => h) (fun v12 => ?_)
  refine gx_aload_n C dX4_be_15 0 rfl ?_
  refine gx_gR (O := "BorrowedLives$State") (nm := "debt") (ds := "[I") (fin := true) C E dX4_be_16 (by decide +kernel) (Or.inl q293) (fun _ h => h) (fun v16 => ?_)
  refine gx_callSNV (As := [rv g v12, rv g v16]) (rest := []) C E dX4_be_19 (mx1_copies (cx_l X) g v12 v16) (lw_meth q1312) q125 q1310 q1311 hyx_X1_copies hR (Nat.le_of_ble_eq_true rfl) (by decide) rfl rfl (Nat.zero_le _) ?_
  refine gx_aload_n C dX4_be_22 1 rfl ?_
  refine gx_gR (O := "BorrowedLives$State") (nm := "home") (ds := "[I") (fin := true) C E dX4_be_23 (by decide +kernel) (Or.inl q295) (fun _ h => h) (fun v23 => ?_)
  refine gx_aload_n C dX4_be_26 0 rfl ?_
  refine gx_gR (O := "BorrowedLives$State") (nm := "home") (ds := "[I") (fin := true) C E dX4_be_27 (by decide +kernel) (Or.inl q295) (fun _ h => h) (fun v27 => ?_)
  refine gx_callSNV (As := [rv g v23, rv g v27]) (rest := []) C E dX4_be_30 (mx1_copies (cx_l X) g v23 v27) (lw_meth q1312) q125 q1310 q1311 hyx_X1_copies hR (Nat.le_of_ble_eq_true rfl) (by decide) rfl rfl (Nat.zero_le _) ?_
  refine gx_aload_n C dX4_be_33 1 rfl ?_
  refine gx_gR (O := "BorrowedLives$State") (nm := "hidden") (ds := "[I") (fin := true) C E dX4_be_34 (by decide +kernel) (Or.inl q297) (fun _ h => h) (fun v34 => ?_)
  refine gx_aload_n C dX4_be_37 0 rfl ?_
  refine gx_gR (O := "BorrowedLives$State") (nm := "hidden") (ds := "[I") (fin := true) C E dX4_be_38 (by decide +kernel) (Or.inl q297) (fun _ h => h) (fun v38 => ?_)
  refine gx_callSNV (As := [rv g v34, rv g v38]) (rest := []) C E dX4_be_41 (mx1_copies (cx_l X) g v34 v38) (lw_meth q1312) q125 q1310 q1311 hyx_X1_copies hR (Nat.le_of_ble_eq_true rfl) (by decide) rfl rfl (Nat.zero_le _) ?_
  refine gx_aload_n C dX4_be_44 1 rfl ?_
  refine gx_gR (O := "BorrowedLives$State") (nm := "had") (ds := "[I") (fin := true) C E dX4_be_45 (by decide +kernel) (Or.inl q300) (fun _ h => h) (fun v45 => ?_)
  refine gx_aload_n C dX4_be_48 0 rfl ?_
  refine gx_gR (O := "BorrowedLives$State") (nm := "had") (ds := "[I") (fin := true) C E dX4_be_49 (by decide +kernel) (Or.inl q300) (fun _ h => h) (fun v49 => ?_)
  refine gx_callSNV (As := [rv g v45, rv g v49]) (rest := []) C E dX4_be_52 (mx1_copies (cx_l X) g v45 v49) (lw_meth q1312) q125 q1310 q1311 hyx_X1_copies hR (Nat.le_of_ble_eq_true rfl) (by decide) rfl rfl (Nat.zero_le _) ?_
  refine gx_aload_n C dX4_be_55 1 rfl ?_
  refine gx_gR (O := "BorrowedLives$State") (nm := "neat") (ds := "[I") (fin := true) C E dX4_be_56 (by decide +kernel) (Or.inl q301) (fun _ h => h) (fun v56 => ?_)
  refine gx_aload_n C dX4_be_59 0 rfl ?_
  refine gx_gR (O := "BorrowedLives$State") (nm := "neat") (ds := "[I") (fin := true) C E dX4_be_60 (by decide +kernel) (Or.inl q301) (fun _ h => h) (fun v60 => ?_)
  refine gx_callSNV (As := [rv g v56, rv g v60]) (rest := []) C E dX4_be_63 (mx1_copies (cx_l X) g v56 v60) (lw_meth q1312) q125 q1310 q1311 hyx_X1_copies hR (Nat.le_of_ble_eq_true rfl) (by decide) rfl rfl (Nat.zero_le _) ?_
  refine gx_aload_n C dX4_be_66 1 rfl ?_
  refine gx_gR (O := "BorrowedLives$State") (nm := "self") (ds := "[I") (fin := true) C E dX4_be_67 (by decide +kernel) (Or.inl q302) (fun _ h => h) (fun v67 => ?_)
  refine gx_aload_n C dX4_be_70 0 rfl ?_
  refine gx_gR (O := "BorrowedLives$State") (nm := "self") (ds := "[I") (fin := true) C E dX4_be_71 (by decide +kernel) (Or.inl q302) (fun _ h => h) (fun v71 => ?_)
  refine gx_callSNV (As := [rv g v67, rv g v71]) (rest := []) C E dX4_be_74 (mx1_copies (cx_l X) g v67 v71) (lw_meth q1312) q125 q1310 q1311 hyx_X1_copies hR (Nat.le_of_ble_eq_true rfl) (by decide) rfl rfl (Nat.zero_le _) ?_
  refine gx_aload_n C dX4_be_77 0 rfl ?_
  refine gx_aload_n C dX4_be_78 1 rfl ?_
  refine gx_gI (O := "BorrowedLives$State") (nm := "away") (ds := "Z") (fin := false) C E dX4_be_79 (by decide +kernel) (Or.inl q308) (fun _ h => h) (fun v79 => ?_)
  refine gx_pzo (fun hz82 => ?_)
  refine gx_pI (O := "BorrowedLives$State") (nm := "away") (ds := "Z") (fin := false) (ty := .boolean) C E dX4_be_82 (by decide +kernel) (Or.inl q308) (fun _ h => h) (fun h => by cases h) (by decide +kernel) (inty_z hz82) ?_
  refine gx_aload_n C dX4_be_85 0 rfl ?_
  refine gx_aload_n C dX4_be_86 1 rfl ?_
  refine gx_gI (O := "BorrowedLives$State") (nm := "days") (ds := "I") (fin := false) C E dX4_be_87 (by decide +kernel) (Or.inl q311) (fun _ h => h) (fun v87 => ?_)
  refine gx_pI (O := "BorrowedLives$State") (nm := "days") (ds := "I") (fin := false) (ty := .int) C E dX4_be_90 (by decide +kernel) (Or.inl q311) (fun _ h => h) (fun h => by cases h) (by decide +kernel) (inty_int _) ?_
  refine gx_aload_n C dX4_be_93 0 rfl ?_
  refine gx_aload_n C dX4_be_94 1 rfl ?_
  refine gx_gI (O := "BorrowedLives$State") (nm := "homes") (ds := "I") (fin := false) C E dX4_be_95 (by decide +kernel) (Or.inl q313) (fun _ h => h) (fun v95 => ?_)
  refine gx_pI (O := "BorrowedLives$State") (nm := "homes") (ds := "I") (fin := false) (ty := .int) C E dX4_be_98 (by decide +kernel) (Or.inl q313) (fun _ h => h) (fun h => by cases h) (by decide +kernel) (inty_int _) ?_
  refine gx_aload_n C dX4_be_101 0 rfl ?_
  refine gx_aload_n C dX4_be_102 1 rfl ?_
  refine gx_gI (O := "BorrowedLives$State") (nm := "harm") (ds := "I") (fin := false) C E dX4_be_103 (by decide +kernel) (Or.inl q315) (fun _ h => h) (fun v103 => ?_)
  refine gx_pI (O := "BorrowedLives$State") (nm := "harm") (ds := "I") (fin := false) (ty := .int) C E dX4_be_106 (by decide +kernel) (Or.inl q315) (fun _ h => h) (fun h => by cases h) (by decide +kernel) (inty_int _) ?_
  exact gx_vret C hQ hr dX4_be_109
def j4_checkIndex_j9 (a0 a1 : Int) (a2 : Option Nat) : PT Hp Int :=
  pfail
def j4_checkIndex (a0 a1 : Int) (a2 : Option Nat) : PT Hp Int :=
  pite (w32 a0 < 0) (
    j4_checkIndex_j9 a0 a1 a2) (
    pite (w32 a0 < w32 a1) (
      pret (w32 a0)) (
      j4_checkIndex_j9 a0 a1 a2))
set_option maxHeartbeats 4000000 in
set_option maxRecDepth 100000 in
theorem mj4_checkIndex (l : Launch) (g : XG) (a0 a1 : Int) (a2 : Option Nat) : XMet l g yJ4_checkIndex cJ4_checkIndex 3 (Option.some Jvm.ClassFile.FieldType.int) (0) [.int (iI a0), .int (iI a1), rv g a2] (j4_checkIndex a0 a1 a2) rvI := by
  refine gx_start (by decide +kernel) (by have e := lg_sl_len [.int (iI a0), .int (iI a1), rv g a2]; simp only [List.map_cons, List.map_nil, List.sum_cons, List.sum_nil, rv_cat, cat_int, cat_long] at e; omega) (fun X Q σ0 hl C E hQ hR hr hnm => ?_)
  subst hl
  rw [show lv_args 0 [.int (iI a0), .int (iI a1), rv g a2] = [(0, .int (iI a0)), (1, .int (iI a1)), (2, rv g a2)] from by simp [lv_args, rv_cat, cat_int, cat_long]]
  show GJ X 3 (xWo g σ0 (cx_s X).heap) Q (j4_checkIndex a0 a1 a2) 0 [(0, .int (iI a0)), (1, .int (iI a1)), (2, rv g a2)] []
  have J9 : ∀ (a0 a1 : Int) (a2 : Option Nat), GJ X 3 (xWo g σ0 (cx_s X).heap) Q (j4_checkIndex_j9 a0 a1 a2) 9 [(0, .int (iI a0)), (1, .int (iI a1)), (2, rv g a2)] [] := by
    intro a0 a1 a2
    unfold j4_checkIndex_j9
    refine gx_aload_n C dJ4_checkIndex_9 2 rfl ?_
    refine gj_iload_n C dJ4_checkIndex_10 0 rfl ?_
    refine gj_iload_n C dJ4_checkIndex_11 1 rfl ?_
    exact gj_fail
  unfold j4_checkIndex
  refine gj_iload_n C dJ4_checkIndex_0 0 rfl ?_
  refine gj_if_lt (tgt := 9) C dJ4_checkIndex_1 (by decide) (fun h1 => gj_pos h1 ?_) (fun h1 => gj_neg h1 ?_)
  · exact gj_to [0, 1, 2] (J9 a0 a1 a2) rfl
  · refine gj_iload_n C dJ4_checkIndex_4 0 rfl ?_
    refine gj_iload_n C dJ4_checkIndex_5 1 rfl ?_
    refine gj_icmp_lt (tgt := 16) C dJ4_checkIndex_6 (by decide) rfl rfl (fun h6 => gj_pos h6 ?_) (fun h6 => gj_neg h6 ?_)
    · refine gj_iload_n C dJ4_checkIndex_16 0 rfl ?_
      refine gj_nrmI ?_
      exact gx_iret C hQ hr dJ4_checkIndex_17
    · exact gj_to [0, 1, 2] (J9 a0 a1 a2) rfl
def j3_checkIndex (a0 a1 : Int) : PT Hp Int :=
  pbnd (j4_checkIndex a0 a1 none) fun v3 =>
  pret v3
set_option maxHeartbeats 4000000 in
set_option maxRecDepth 100000 in
theorem mj3_checkIndex (l : Launch) (g : XG) (a0 a1 : Int) : XMet l g yJ3_checkIndex cJ3_checkIndex 2 (Option.some Jvm.ClassFile.FieldType.int) (1) [.int (iI a0), .int (iI a1)] (j3_checkIndex a0 a1) rvI := by
  refine gx_start (by decide +kernel) (by have e := lg_sl_len [.int (iI a0), .int (iI a1)]; simp only [List.map_cons, List.map_nil, List.sum_cons, List.sum_nil, rv_cat, cat_int, cat_long] at e; omega) (fun X Q σ0 hl C E hQ hR hr hnm => ?_)
  subst hl
  show GJ X 2 (xWo g σ0 (cx_s X).heap) Q (j3_checkIndex a0 a1) 0 [(0, .int (iI a0)), (1, .int (iI a1))] []
  unfold j3_checkIndex
  refine gj_iload_n C dJ3_checkIndex_0 0 rfl ?_
  refine gj_iload_n C dJ3_checkIndex_1 1 rfl ?_
  refine gx_null C dJ3_checkIndex_2 ?_
  refine gx_callSI (As := [.int (iI a0), .int (iI a1), rv g none]) (rest := []) C E dJ3_checkIndex_3 (mj4_checkIndex (cx_l X) g a0 a1 none) (lw_S q361 q362 q133 q363) hyx_J4_checkIndex hR (Nat.le_of_ble_eq_true rfl) (by decide) rfl rfl (Nat.zero_le _) (fun v3 => ?_)
  exact gx_iret C hQ hr dJ3_checkIndex_6
def j2_elementData (a0 : Option Nat) (a1 : Int) : PT Hp (Option Nat) :=
  pbnd (xgR a0 26 1) fun v1 =>
  pbnd (xldR v1 44 a1) fun v5 =>
  pret v5
set_option maxHeartbeats 4000000 in
set_option maxRecDepth 100000 in
theorem mj2_elementData (l : Launch) (g : XG) (a0 : Option Nat) (a1 : Int) : XMet l g yJ2_elementData cJ2_elementData 2 (Option.some (Jvm.ClassFile.FieldType.object "java/lang/Object")) (0) [rv g a0, .int (iI a1)] (j2_elementData a0 a1) (rvR g) := by
  refine gx_start (by decide +kernel) (by have e := lg_sl_len [rv g a0, .int (iI a1)]; simp only [List.map_cons, List.map_nil, List.sum_cons, List.sum_nil, rv_cat, cat_int, cat_long] at e; omega) (fun X Q σ0 hl C E hQ hR hr hnm => ?_)
  subst hl
  rw [show lv_args 0 [rv g a0, .int (iI a1)] = [(0, rv g a0), (1, .int (iI a1))] from by simp [lv_args, rv_cat, cat_int, cat_long]]
  show GJ X 2 (xWo g σ0 (cx_s X).heap) Q (j2_elementData a0 a1) 0 [(0, rv g a0), (1, .int (iI a1))] []
  unfold j2_elementData
  refine gx_aload_n C dJ2_elementData_0 0 rfl ?_
  refine gx_gR (O := "java/util/ArrayList") (nm := "elementData") (ds := "[Ljava/lang/Object;") (fin := false) C E dJ2_elementData_1 (by decide +kernel) (Or.inl q239) (fun _ h => h) (fun v1 => ?_)
  refine gj_iload_n C dJ2_elementData_4 1 rfl ?_
  refine gx_aald (t0 := 4) C E dJ2_elementData_5 (by decide) (by decide) rfl rfl (fun v5 => ?_)
  exact gx_aret C hQ hr (Or.inl ⟨_, rfl⟩) dJ2_elementData_6
def j2_get (a0 : Option Nat) (a1 : Int) : PT Hp (Option Nat) :=
  pbnd (xgI a0 26 2) fun v2 =>
  pbnd (j3_checkIndex a1 v2) fun v5 =>
  pbnd (xrecv a0 26) fun _ =>
  pbnd (j2_elementData a0 a1) fun v11 =>
  pret v11
set_option maxHeartbeats 4000000 in
set_option maxRecDepth 100000 in
theorem mj2_get (l : Launch) (g : XG) (a0 : Option Nat) (a1 : Int) : XMet l g yJ2_get cJ2_get 2 (Option.some (Jvm.ClassFile.FieldType.object "java/lang/Object")) (2) [rv g a0, .int (iI a1)] (j2_get a0 a1) (rvR g) := by
  refine gx_start (by decide +kernel) (by have e := lg_sl_len [rv g a0, .int (iI a1)]; simp only [List.map_cons, List.map_nil, List.sum_cons, List.sum_nil, rv_cat, cat_int, cat_long] at e; omega) (fun X Q σ0 hl C E hQ hR hr hnm => ?_)
  subst hl
  rw [show lv_args 0 [rv g a0, .int (iI a1)] = [(0, rv g a0), (1, .int (iI a1))] from by simp [lv_args, rv_cat, cat_int, cat_long]]
  show GJ X 2 (xWo g σ0 (cx_s X).heap) Q (j2_get a0 a1) 0 [(0, rv g a0), (1, .int (iI a1))] []
  unfold j2_get
  refine gj_iload_n C dJ2_get_0 1 rfl ?_
  refine gx_aload_n C dJ2_get_1 0 rfl ?_
  refine gx_gI (O := "java/util/ArrayList") (nm := "size") (ds := "I") (fin := false) C E dJ2_get_2 (by decide +kernel) (Or.inl q240) (fun _ h => h) (fun v2 => ?_)
  refine gx_callSI (As := [.int (iI a1), .int (iI v2)]) (rest := []) C E dJ2_get_5 (mj3_checkIndex (cx_l X) g a1 v2) (lw_S q358 q359 q132 q360) hyx_J3_checkIndex hR (Nat.le_of_ble_eq_true rfl) (by decide) rfl rfl (Nat.zero_le _) (fun v5 => ?_)
  refine gj_pop C dJ2_get_8 rfl ?_
  refine gx_aload_n C dJ2_get_9 0 rfl ?_
  refine gj_iload_n C dJ2_get_10 1 rfl ?_
  refine gx_callVR (t0 := 26) (As := [.int (iI a1)]) (rest := []) C E rfl dJ2_get_11 (mj2_elementData (cx_l X) g a0 a1) (lw_V q364 q365 q366 q130 q367) hyx_J2_elementData rfl hR (Nat.le_of_ble_eq_true rfl) (by decide) rfl rfl (Nat.zero_le _) (fun v11 => ?_)
  exact gx_aret C hQ hr (Or.inl ⟨_, rfl⟩) dJ2_get_14
def x1_person_2 (a0 : Option Nat) (a1 : Int) : PT Hp (Option Nat) :=
  pbnd (xgR a0 1 2) fun v1 =>
  pbnd (xgR v1 3 0) fun v4 =>
  pbnd (xrecv v4 26) fun _ =>
  pbnd (j2_get v4 a1) fun v8 =>
  pbnd (xcast v8 [6, 7, 8, 9]) fun _ =>
  pret v8
set_option maxHeartbeats 4000000 in
set_option maxRecDepth 100000 in
theorem mx1_person_2 (l : Launch) (g : XG) (a0 : Option Nat) (a1 : Int) : XMet l g yX1_person_2 cX1_person_2 2 (Option.some (Jvm.ClassFile.FieldType.object "BorrowedLives$Person")) (3) [rv g a0, .int (iI a1)] (x1_person_2 a0 a1) (rvR g) := by
  refine gx_start (by decide +kernel) (by have e := lg_sl_len [rv g a0, .int (iI a1)]; simp only [List.map_cons, List.map_nil, List.sum_cons, List.sum_nil, rv_cat, cat_int, cat_long] at e; omega) (fun X Q σ0 hl C E hQ hR hr hnm => ?_)
  subst hl
  rw [show lv_args 0 [rv g a0, .int (iI a1)] = [(0, rv g a0), (1, .int (iI a1))] from by simp [lv_args, rv_cat, cat_int, cat_long]]
  show GJ X 2 (xWo g σ0 (cx_s X).heap) Q (x1_person_2 a0 a1) 0 [(0, rv g a0), (1, .int (iI a1))] []
  unfold x1_person_2
  refine gx_aload_n C dX1_person_2_0 0 rfl ?_
  refine gx_gR (O := "BorrowedLives") (nm := "town") (ds := "LBorrowedLives$Town;") (fin := false) C E dX1_person_2_1 (by decide +kernel) (Or.inl q377) (fun _ h => h) (fun v1 => ?_)
  refine gx_gR (O := "BorrowedLives$Town") (nm := "people") (ds := "Ljava/util/ArrayList;") (fin := true) C E dX1_person_2_4 (by decide +kernel) (Or.inr ⟨_, q253⟩) (fun _ h => h) (fun v4 => ?_)
  refine gj_iload_n C dX1_person_2_7 1 rfl ?_
  refine gx_callVR (t0 := 26) (As := [.int (iI a1)]) (rest := []) C E rfl dX1_person_2_8 (mj2_get (cx_l X) g v4 a1) (lw_V q1204 q355 q356 q130 q357) hyx_J2_get rfl hR (Nat.le_of_ble_eq_true rfl) (by decide) rfl rfl (Nat.zero_le _) (fun v8 => ?_)
  refine gx_cast C E dX1_person_2_11 q1205 xc_BorrowedLives_Person ?_
  exact gx_aret C hQ hr (Or.inl ⟨_, rfl⟩) dX1_person_2_14
def x1_deedIn (a0 a1 a2 : Int) : PT Hp Int :=
  pbnd (x1_power 3 (((a1 - 1)) - a2)) fun v7 =>
  pbnd (pnz v7) fun _ =>
  pbnd (pnz 3) fun _ =>
  pret (zrem (zdiv a0 v7) 3)
set_option maxHeartbeats 4000000 in
set_option maxRecDepth 100000 in
theorem mx1_deedIn (l : Launch) (g : XG) (a0 a1 a2 : Int) : XMet l g yX1_deedIn cX1_deedIn 3 (Option.some Jvm.ClassFile.FieldType.int) (1) [.int (iI a0), .int (iI a1), .int (iI a2)] (x1_deedIn a0 a1 a2) rvI := by
  refine gx_start (by decide +kernel) (by have e := lg_sl_len [.int (iI a0), .int (iI a1), .int (iI a2)]; simp only [List.map_cons, List.map_nil, List.sum_cons, List.sum_nil, rv_cat, cat_int, cat_long] at e; omega) (fun X Q σ0 hl C E hQ hR hr hnm => ?_)
  subst hl
  show GJ X 3 (xWo g σ0 (cx_s X).heap) Q (x1_deedIn a0 a1 a2) 0 [(0, .int (iI a0)), (1, .int (iI a1)), (2, .int (iI a2))] []
  unfold x1_deedIn
  refine gj_iload_n C dX1_deedIn_0 0 rfl ?_
  refine gj_iconst C dX1_deedIn_1 ?_
  refine gj_iload_n C dX1_deedIn_2 1 rfl ?_
  refine gj_iconst C dX1_deedIn_3 ?_
  refine gj_isub C dX1_deedIn_4 ?_
  refine gj_iload_n C dX1_deedIn_5 2 rfl ?_
  refine gj_isub C dX1_deedIn_6 ?_
  refine gx_callSI (As := [.int (iI 3), .int (iI ((((a1 - 1)) - a2)))]) (rest := [.int (iI a0)]) C E dX1_deedIn_7 (mx1_power (cx_l X) g 3 (((a1 - 1)) - a2)) (lw_S q1767 q1768 q125 q1769) hyx_X1_power hR (Nat.le_of_ble_eq_true rfl) (by decide) rfl rfl (Nat.le_of_ble_eq_true rfl) (fun v7 => ?_)
  refine gj_nz (fun hz10 => ?_)
  refine gj_idiv C dX1_deedIn_10 hz10 ?_
  refine gj_iconst C dX1_deedIn_11 ?_
  refine gj_nz (fun hz12 => ?_)
  refine gj_irem C dX1_deedIn_12 hz12 ?_
  exact gx_iret C hQ hr dX1_deedIn_13
def x4_gets (a0 : Option Nat) (a1 a2 : Int) : PT Hp Unit :=
  pbnd (xgR a0 4 0) fun v1 =>
  pbnd (xgR a0 4 0) fun v9 =>
  pbnd (xld v9 40 a1) fun v13 =>
  pbnd (xst v1 40 a1 (w32 (zmin 9999 ((v13 + a2))))) fun _ =>
  pret ()
set_option maxHeartbeats 4000000 in
set_option maxRecDepth 100000 in
theorem mx4_gets (l : Launch) (g : XG) (a0 : Option Nat) (a1 a2 : Int) : XMet l g yX4_gets cX4_gets 3 (Option.none : Option Jvm.ClassFile.FieldType) (1) [rv g a0, .int (iI a1), .int (iI a2)] (x4_gets a0 a1 a2) rvV := by
  refine gx_start (by decide +kernel) (by have e := lg_sl_len [rv g a0, .int (iI a1), .int (iI a2)]; simp only [List.map_cons, List.map_nil, List.sum_cons, List.sum_nil, rv_cat, cat_int, cat_long] at e; omega) (fun X Q σ0 hl C E hQ hR hr hnm => ?_)
  subst hl
  rw [show lv_args 0 [rv g a0, .int (iI a1), .int (iI a2)] = [(0, rv g a0), (1, .int (iI a1)), (2, .int (iI a2))] from by simp [lv_args, rv_cat, cat_int, cat_long]]
  show GJ X 3 (xWo g σ0 (cx_s X).heap) Q (x4_gets a0 a1 a2) 0 [(0, rv g a0), (1, .int (iI a1)), (2, .int (iI a2))] []
  unfold x4_gets
  refine gx_aload_n C dX4_gets_0 0 rfl ?_
  refine gx_gR (O := "BorrowedLives$State") (nm := "purse") (ds := "[I") (fin := true) C E dX4_gets_1 (by decide +kernel) (Or.inl q290) (fun _ h => h) (fun v1 => ?_)
  refine gj_iload_n C dX4_gets_4 1 rfl ?_
  refine gj_sipush C dX4_gets_5 rfl ?_
  refine gx_aload_n C dX4_gets_8 0 rfl ?_
  refine gx_gR (O := "BorrowedLives$State") (nm := "purse") (ds := "[I") (fin := true) C E dX4_gets_9 (by decide +kernel) (Or.inl q290) (fun _ h => h) (fun v9 => ?_)
  refine gj_iload_n C dX4_gets_12 1 rfl ?_
  refine gx_iald C E dX4_gets_13 (fun v13 => ?_)
  refine gj_iload_n C dX4_gets_14 2 rfl ?_
  refine gj_iadd C dX4_gets_15 ?_
  refine gx_min C E dX4_gets_16 q1379 q517 q137 q518 hR (Nat.le_of_ble_eq_true rfl) (by simp only [List.map_cons, List.map_nil, List.sum_cons, List.sum_nil, rv_cat, cat_int, cat_long]; decide) ?_
  refine gj_nrmI ?_
  refine gx_iast C E dX4_gets_19 ?_
  exact gx_vret C hQ hr dX4_gets_20
def x1_does (a0 a1 : Option Nat) (a2 a3 a4 : Int) : PT Hp Unit :=
  pite (w32 a4 = 0) (
    pbnd (xrecv a1 4) fun _ =>
    pbnd (x4_gets a1 a2 a3) fun _ =>
    pret ()) (
    pite (w32 a4 = 1) (
      pbnd (xgR a1 4 1) fun v23 =>
      pbnd (xld v23 40 a2) fun v27 =>
      pbnd (xgR a1 4 0) fun v29 =>
      pbnd (xld v29 40 a2) fun v33 =>
      plet (zmin 10 (zmin v27 v33)) fun x40 =>
      pbnd (xgR a1 4 1) fun v43 =>
      pbnd (xld v43 40 a2) fun v48 =>
      pbnd (xst v43 40 a2 (w32 (v48 - x40))) fun _ =>
      pbnd (xgR a1 4 0) fun v54 =>
      pbnd (xld v54 40 a2) fun v59 =>
      pbnd (xst v54 40 a2 (w32 (v59 - x40))) fun _ =>
      pret ()) (
      pbnd (xgR a1 4 2) fun v68 =>
      pbnd (xgR a1 4 2) fun v75 =>
      pbnd (xld v75 40 a2) fun v79 =>
      plet (if 4 < w32 a3 then 2 else 1) fun d90 =>
      pbnd (xst v68 40 a2 (w32 (zmin 9 ((v79 + d90))))) fun _ =>
      pret ()))
set_option maxHeartbeats 4000000 in
set_option maxRecDepth 100000 in
theorem mx1_does (l : Launch) (g : XG) (a0 a1 : Option Nat) (a2 a3 a4 : Int) : XMet l g yX1_does cX1_does 6 (Option.none : Option Jvm.ClassFile.FieldType) (2) [rv g a0, rv g a1, .int (iI a2), .int (iI a3), .int (iI a4)] (x1_does a0 a1 a2 a3 a4) rvV := by
  refine gx_start (by decide +kernel) (by have e := lg_sl_len [rv g a0, rv g a1, .int (iI a2), .int (iI a3), .int (iI a4)]; simp only [List.map_cons, List.map_nil, List.sum_cons, List.sum_nil, rv_cat, cat_int, cat_long] at e; omega) (fun X Q σ0 hl C E hQ hR hr hnm => ?_)
  subst hl
  rw [show lv_args 0 [rv g a0, rv g a1, .int (iI a2), .int (iI a3), .int (iI a4)] = [(0, rv g a0), (1, rv g a1), (2, .int (iI a2)), (3, .int (iI a3)), (4, .int (iI a4))] from by simp [lv_args, rv_cat, cat_int, cat_long]]
  show GJ X 6 (xWo g σ0 (cx_s X).heap) Q (x1_does a0 a1 a2 a3 a4) 0 [(0, rv g a0), (1, rv g a1), (2, .int (iI a2)), (3, .int (iI a3)), (4, .int (iI a4))] []
  unfold x1_does
  refine gj_iload C dX1_does_0 4 rfl ?_
  refine gj_if_ne (tgt := 14) C dX1_does_2 (by decide) (fun h2 => gj_neg h2 ?_) (fun h2 => gj_pos h2 ?_)
  · refine gj_iload C dX1_does_14 4 rfl ?_
    refine gj_iconst C dX1_does_16 ?_
    refine gj_icmp_ne (tgt := 67) (b' := 1) C dX1_does_17 (by decide) rfl (by decide) (fun h17 => gj_neg h17 ?_) (fun h17 => gj_pos h17 ?_)
    · refine gx_aload_n C dX1_does_67 1 rfl ?_
      refine gx_gR (O := "BorrowedLives$State") (nm := "home") (ds := "[I") (fin := true) C E dX1_does_68 (by decide +kernel) (Or.inr ⟨_, q296⟩) (fun _ h => h) (fun v68 => ?_)
      refine gj_iload_n C dX1_does_71 2 rfl ?_
      refine gj_bipush C dX1_does_72 rfl ?_
      refine gx_aload_n C dX1_does_74 1 rfl ?_
      refine gx_gR (O := "BorrowedLives$State") (nm := "home") (ds := "[I") (fin := true) C E dX1_does_75 (by decide +kernel) (Or.inr ⟨_, q296⟩) (fun _ h => h) (fun v75 => ?_)
      refine gj_iload_n C dX1_does_78 2 rfl ?_
      refine gx_iald C E dX1_does_79 (fun v79 => ?_)
      refine gj_iload_n C dX1_does_80 3 rfl ?_
      refine gj_iconst C dX1_does_81 ?_
      refine gj_dia (J := 90) (L := [(0, rv g a0), (1, rv g a1), (2, .int (iI a2)), (3, .int (iI a3)), (4, .int (iI a4))]) (st := [.int (iI v79), .int (iI 9), .int (iI a2), rv g v68]) (fun d90 => ?_) (fun t hJ => ?_)
      · skip
        refine gj_iadd C dX1_does_90 ?_
        refine gx_min C E dX1_does_91 q1361 q517 q137 q518 hR (Nat.le_of_ble_eq_true rfl) (by simp only [List.map_cons, List.map_nil, List.sum_cons, List.sum_nil, rv_cat, cat_int, cat_long]; decide) ?_
        refine gj_nrmI ?_
        refine gx_iast C E dX1_does_94 ?_
        exact gx_vret C hQ hr dX1_does_95
      · refine gj_icmp_le (tgt := 89) (b' := 4) C dX1_does_82 (by decide) rfl (by decide) (fun h82 => ?_) (fun h82 => ?_)
        · refine gj_iconst C dX1_does_89 ?_
          exact (by rw [if_neg h82] at hJ; exact hJ)
        · refine gj_iconst C dX1_does_85 ?_
          refine gj_goto (tgt := 90) C dX1_does_86 (by decide) ?_
          exact (by rw [if_pos h82] at hJ; exact hJ)
    · refine gj_bipush C dX1_does_20 rfl ?_
      refine gx_aload_n C dX1_does_22 1 rfl ?_
      refine gx_gR (O := "BorrowedLives$State") (nm := "debt") (ds := "[I") (fin := true) C E dX1_does_23 (by decide +kernel) (Or.inr ⟨_, q294⟩) (fun _ h => h) (fun v23 => ?_)
      refine gj_iload_n C dX1_does_26 2 rfl ?_
      refine gx_iald C E dX1_does_27 (fun v27 => ?_)
      refine gx_aload_n C dX1_does_28 1 rfl ?_
      refine gx_gR (O := "BorrowedLives$State") (nm := "purse") (ds := "[I") (fin := true) C E dX1_does_29 (by decide +kernel) (Or.inr ⟨_, q292⟩) (fun _ h => h) (fun v29 => ?_)
      refine gj_iload_n C dX1_does_32 2 rfl ?_
      refine gx_iald C E dX1_does_33 (fun v33 => ?_)
      refine gx_min C E dX1_does_34 q1361 q517 q137 q518 hR (Nat.le_of_ble_eq_true rfl) (Nat.le_of_ble_eq_true rfl) ?_
      refine gx_min C E dX1_does_37 q1361 q517 q137 q518 hR (Nat.le_of_ble_eq_true rfl) (Nat.zero_le _) ?_
      refine gj_let (fun x40 => ?_)
      refine gj_istore (L' := [(5, _), (0, _), (1, _), (2, _), (3, _), (4, _)]) C dX1_does_40 (by decide) rfl ?_
      refine gx_aload_n C dX1_does_42 2 rfl ?_
      refine gx_gR (O := "BorrowedLives$State") (nm := "debt") (ds := "[I") (fin := true) C E dX1_does_43 (by decide +kernel) (Or.inr ⟨_, q294⟩) (fun _ h => h) (fun v43 => ?_)
      refine gj_iload_n C dX1_does_46 3 rfl ?_
      refine gj_dup2 C dX1_does_47 rfl (rv_cat _ _) ?_
      refine gx_iald C E dX1_does_48 (fun v48 => ?_)
      refine gj_iload C dX1_does_49 0 rfl ?_
      refine gj_isub C dX1_does_51 ?_
      refine gj_nrmI ?_
      refine gx_iast C E dX1_does_52 ?_
      refine gx_aload_n C dX1_does_53 2 rfl ?_
      refine gx_gR (O := "BorrowedLives$State") (nm := "purse") (ds := "[I") (fin := true) C E dX1_does_54 (by decide +kernel) (Or.inr ⟨_, q292⟩) (fun _ h => h) (fun v54 => ?_)
      refine gj_iload_n C dX1_does_57 3 rfl ?_
      refine gj_dup2 C dX1_does_58 rfl (rv_cat _ _) ?_
      refine gx_iald C E dX1_does_59 (fun v59 => ?_)
      refine gj_iload C dX1_does_60 0 rfl ?_
      refine gj_isub C dX1_does_62 ?_
      refine gj_nrmI ?_
      refine gx_iast C E dX1_does_63 ?_
      refine gj_goto (tgt := 95) C dX1_does_64 (by decide) ?_
      exact gx_vret C hQ hr dX1_does_95
  · refine gx_aload_n C dX1_does_5 1 rfl ?_
    refine gj_iload_n C dX1_does_6 2 rfl ?_
    refine gj_iload_n C dX1_does_7 3 rfl ?_
    refine gx_callVV (t0 := 4) (As := [.int (iI a2), .int (iI a3)]) (rest := []) C E rfl dX1_does_8 (mx4_gets (cx_l X) g a1 a2 a3) (lw_V q1375 q1376 q1377 q131 q1378) hyx_X4_gets rfl hR (Nat.le_of_ble_eq_true rfl) (by decide) rfl rfl (Nat.zero_le _) ?_
    refine gj_goto (tgt := 95) C dX1_does_11 (by decide) ?_
    exact gx_vret C hQ hr dX1_does_95
def x10_kind (a0 : Option Nat) : PT Hp Int :=
  pret 3
set_option maxHeartbeats 4000000 in
set_option maxRecDepth 100000 in
theorem mx10_kind (l : Launch) (g : XG) (a0 : Option Nat) : XMet l g yX10_kind cX10_kind 1 (Option.some Jvm.ClassFile.FieldType.int) (0) [rv g a0] (x10_kind a0) rvI := by
  refine gx_start (by decide +kernel) (by have e := lg_sl_len [rv g a0]; simp only [List.map_cons, List.map_nil, List.sum_cons, List.sum_nil, rv_cat, cat_int, cat_long] at e; omega) (fun X Q σ0 hl C E hQ hR hr hnm => ?_)
  subst hl
  rw [show lv_args 0 [rv g a0] = [(0, rv g a0)] from by simp [lv_args, rv_cat, cat_int, cat_long]]
  show GJ X 1 (xWo g σ0 (cx_s X).heap) Q (x10_kind a0) 0 [(0, rv g a0)] []
  unfold x10_kind
  refine gj_iconst C dX10_kind_0 ?_
  exact gx_iret C hQ hr dX10_kind_1
def x7_kind (a0 : Option Nat) : PT Hp Int :=
  pret 0
set_option maxHeartbeats 4000000 in
set_option maxRecDepth 100000 in
theorem mx7_kind (l : Launch) (g : XG) (a0 : Option Nat) : XMet l g yX7_kind cX7_kind 1 (Option.some Jvm.ClassFile.FieldType.int) (0) [rv g a0] (x7_kind a0) rvI := by
  refine gx_start (by decide +kernel) (by have e := lg_sl_len [rv g a0]; simp only [List.map_cons, List.map_nil, List.sum_cons, List.sum_nil, rv_cat, cat_int, cat_long] at e; omega) (fun X Q σ0 hl C E hQ hR hr hnm => ?_)
  subst hl
  rw [show lv_args 0 [rv g a0] = [(0, rv g a0)] from by simp [lv_args, rv_cat, cat_int, cat_long]]
  show GJ X 1 (xWo g σ0 (cx_s X).heap) Q (x7_kind a0) 0 [(0, rv g a0)] []
  unfold x7_kind
  refine gj_iconst C dX7_kind_0 ?_
  exact gx_iret C hQ hr dX7_kind_1
def x8_kind (a0 : Option Nat) : PT Hp Int :=
  pret 1
set_option maxHeartbeats 4000000 in
set_option maxRecDepth 100000 in
theorem mx8_kind (l : Launch) (g : XG) (a0 : Option Nat) : XMet l g yX8_kind cX8_kind 1 (Option.some Jvm.ClassFile.FieldType.int) (0) [rv g a0] (x8_kind a0) rvI := by
  refine gx_start (by decide +kernel) (by have e := lg_sl_len [rv g a0]; simp only [List.map_cons, List.map_nil, List.sum_cons, List.sum_nil, rv_cat, cat_int, cat_long] at e; omega) (fun X Q σ0 hl C E hQ hR hr hnm => ?_)
  subst hl
  rw [show lv_args 0 [rv g a0] = [(0, rv g a0)] from by simp [lv_args, rv_cat, cat_int, cat_long]]
  show GJ X 1 (xWo g σ0 (cx_s X).heap) Q (x8_kind a0) 0 [(0, rv g a0)] []
  unfold x8_kind
  refine gj_iconst C dX8_kind_0 ?_
  exact gx_iret C hQ hr dX8_kind_1
def x9_kind (a0 : Option Nat) : PT Hp Int :=
  pret 2
set_option maxHeartbeats 4000000 in
set_option maxRecDepth 100000 in
theorem mx9_kind (l : Launch) (g : XG) (a0 : Option Nat) : XMet l g yX9_kind cX9_kind 1 (Option.some Jvm.ClassFile.FieldType.int) (0) [rv g a0] (x9_kind a0) rvI := by
  refine gx_start (by decide +kernel) (by have e := lg_sl_len [rv g a0]; simp only [List.map_cons, List.map_nil, List.sum_cons, List.sum_nil, rv_cat, cat_int, cat_long] at e; omega) (fun X Q σ0 hl C E hQ hR hr hnm => ?_)
  subst hl
  rw [show lv_args 0 [rv g a0] = [(0, rv g a0)] from by simp [lv_args, rv_cat, cat_int, cat_long]]
  show GJ X 1 (xWo g σ0 (cx_s X).heap) Q (x9_kind a0) 0 [(0, rv g a0)] []
  unfold x9_kind
  refine gj_iconst C dX9_kind_0 ?_
  exact gx_iret C hQ hr dX9_kind_1
def x1_lays_j36 (a0 a1 : Option Nat) (a2 a3 : Int) (s0 : Option Nat) (s1 s2 : Int) : PT Hp Unit :=
  pbnd (xst s0 40 s1 (w32 s2)) fun _ =>
  pbnd (xgR a0 1 7) fun v38 =>
  pbnd (xgR a1 4 1) fun v43 =>
  pbnd (xld v43 40 a2) fun v47 =>
  pbnd (xst v38 40 1 v47) fun _ =>
  pbnd (xgR a0 1 7) fun v50 =>
  pbnd (xgR a1 4 2) fun v55 =>
  pbnd (xld v55 40 a2) fun v59 =>
  pbnd (xst v50 40 2 v59) fun _ =>
  pbnd (xgR a0 1 7) fun v62 =>
  pbnd (xrecv a0 1) fun _ =>
  pbnd (x1_person_2 a0 a3) fun v68 =>
  pbnd (xgIs v68 [6, 7, 8, 9] 1) fun v71 =>
  pbnd (xst v62 40 3 v71) fun _ =>
  pbnd (xgR a0 1 7) fun v76 =>
  pbnd (xrecv a0 1) fun _ =>
  pbnd (x1_person_2 a0 a3) fun v82 =>
  pbnd (xdisp v82 [(6, x7_kind v82), (7, x8_kind v82), (8, x9_kind v82), (9, x10_kind v82)]) fun v85 =>
  pbnd (xst v76 40 4 v85) fun _ =>
  pret ()
def x1_lays (a0 a1 : Option Nat) (a2 a3 a4 : Int) : PT Hp Unit :=
  pbnd (xgR a0 1 7) fun v1 =>
  pite (w32 a4 = 0) (
    pbnd (xgR a1 4 0) fun v21 =>
    pbnd (xld v21 40 a2) fun v25 =>
    pbnd (xgR a1 4 3) fun v27 =>
    pbnd (xld v27 40 a2) fun v31 =>
    x1_lays_j36 a0 a1 a2 a3 v1 0 (zmax 0 ((v25 - v31)))) (
    pbnd (xgR a1 4 0) fun v11 =>
    pbnd (xld v11 40 a2) fun v15 =>
    x1_lays_j36 a0 a1 a2 a3 v1 0 v15)
set_option maxHeartbeats 4000000 in
set_option maxRecDepth 100000 in
theorem mx1_lays (l : Launch) (g : XG) (a0 a1 : Option Nat) (a2 a3 a4 : Int) : XMet l g yX1_lays cX1_lays 5 (Option.none : Option Jvm.ClassFile.FieldType) (4) [rv g a0, rv g a1, .int (iI a2), .int (iI a3), .int (iI a4)] (x1_lays a0 a1 a2 a3 a4) rvV := by
  refine gx_start (by decide +kernel) (by have e := lg_sl_len [rv g a0, rv g a1, .int (iI a2), .int (iI a3), .int (iI a4)]; simp only [List.map_cons, List.map_nil, List.sum_cons, List.sum_nil, rv_cat, cat_int, cat_long] at e; omega) (fun X Q σ0 hl C E hQ hR hr hnm => ?_)
  subst hl
  rw [show lv_args 0 [rv g a0, rv g a1, .int (iI a2), .int (iI a3), .int (iI a4)] = [(0, rv g a0), (1, rv g a1), (2, .int (iI a2)), (3, .int (iI a3)), (4, .int (iI a4))] from by simp [lv_args, rv_cat, cat_int, cat_long]]
  show GJ X 5 (xWo g σ0 (cx_s X).heap) Q (x1_lays a0 a1 a2 a3 a4) 0 [(0, rv g a0), (1, rv g a1), (2, .int (iI a2)), (3, .int (iI a3)), (4, .int (iI a4))] []
  have J36 : ∀ (a0 a1 : Option Nat) (a2 a3 : Int) (s0 : Option Nat) (s1 s2 : Int), GJ X 5 (xWo g σ0 (cx_s X).heap) Q (x1_lays_j36 a0 a1 a2 a3 s0 s1 s2) 36 [(0, rv g a0), (1, rv g a1), (2, .int (iI a2)), (3, .int (iI a3))] [.int (iI s2), .int (iI s1), rv g s0] := by
    intro a0 a1 a2 a3 s0 s1 s2
    unfold x1_lays_j36
    refine gj_nrmI ?_
    refine gx_iast C E dX1_lays_36 ?_
    refine gx_aload_n C dX1_lays_37 0 rfl ?_
    refine gx_gR (O := "BorrowedLives") (nm := "facts") (ds := "[I") (fin := true) C E dX1_lays_38 (by decide +kernel) (Or.inl q387) (fun _ h => h) (fun v38 => ?_)
    refine gj_iconst C dX1_lays_41 ?_
    refine gx_aload_n C dX1_lays_42 1 rfl ?_
    refine gx_gR (O := "BorrowedLives$State") (nm := "debt") (ds := "[I") (fin := true) C E dX1_lays_43 (by decide +kernel) (Or.inr ⟨_, q294⟩) (fun _ h => h) (fun v43 => ?_)
    refine gj_iload_n C dX1_lays_46 2 rfl ?_
    refine gx_iald C E dX1_lays_47 (fun v47 => ?_)
    refine gx_iast C E dX1_lays_48 ?_
    refine gx_aload_n C dX1_lays_49 0 rfl ?_
    refine gx_gR (O := "BorrowedLives") (nm := "facts") (ds := "[I") (fin := true) C E dX1_lays_50 (by decide +kernel) (Or.inl q387) (fun _ h => h) (fun v50 => ?_)
    refine gj_iconst C dX1_lays_53 ?_
    refine gx_aload_n C dX1_lays_54 1 rfl ?_
    refine gx_gR (O := "BorrowedLives$State") (nm := "home") (ds := "[I") (fin := true) C E dX1_lays_55 (by decide +kernel) (Or.inr ⟨_, q296⟩) (fun _ h => h) (fun v55 => ?_)
    refine gj_iload_n C dX1_lays_58 2 rfl ?_
    refine gx_iald C E dX1_lays_59 (fun v59 => ?_)
    refine gx_iast C E dX1_lays_60 ?_
    refine gx_aload_n C dX1_lays_61 0 rfl ?_
    refine gx_gR (O := "BorrowedLives") (nm := "facts") (ds := "[I") (fin := true) C E dX1_lays_62 (by decide +kernel) (Or.inl q387) (fun _ h => h) (fun v62 => ?_)
    refine gj_iconst C dX1_lays_65 ?_
    refine gx_aload_n C dX1_lays_66 0 rfl ?_
    refine gj_iload_n C dX1_lays_67 3 rfl ?_
    refine gx_callVR (t0 := 1) (As := [.int (iI a3)]) (rest := [.int (iI 3), rv g v62]) C E rfl dX1_lays_68 (mx1_person_2 (cx_l X) g a0 a3) (lw_V q1200 q1202 qs30 q125 q1203) hyx_X1_person_2 rfl hR (Nat.le_of_ble_eq_true rfl) (by decide) rfl rfl (by simp only [List.map_cons, List.map_nil, List.sum_cons, List.sum_nil, rv_cat, cat_int, cat_long]; decide) (fun v68 => ?_)
    refine gx_gIs (O := "BorrowedLives$Person") (nm := "skill") (ds := "I") (fin := false) C E dX1_lays_71 (by decide +kernel) (Or.inl q879) (fun _ h => h) (fun v71 => ?_)
    refine gx_iast C E dX1_lays_74 ?_
    refine gx_aload_n C dX1_lays_75 0 rfl ?_
    refine gx_gR (O := "BorrowedLives") (nm := "facts") (ds := "[I") (fin := true) C E dX1_lays_76 (by decide +kernel) (Or.inl q387) (fun _ h => h) (fun v76 => ?_)
    refine gj_iconst C dX1_lays_79 ?_
    refine gx_aload_n C dX1_lays_80 0 rfl ?_
    refine gj_iload_n C dX1_lays_81 3 rfl ?_
    refine gx_callVR (t0 := 1) (As := [.int (iI a3)]) (rest := [.int (iI 4), rv g v76]) C E rfl dX1_lays_82 (mx1_person_2 (cx_l X) g a0 a3) (lw_V q1200 q1202 qs30 q125 q1203) hyx_X1_person_2 rfl hR (Nat.le_of_ble_eq_true rfl) (by decide) rfl rfl (by simp only [List.map_cons, List.map_nil, List.sum_cons, List.sum_nil, rv_cat, cat_int, cat_long]; decide) (fun v82 => ?_)
    refine gx_shI (rest := [.int (iI 4), rv g v76]) (fun kk => ?_) (fun v85 => ?_)
    · refine gx_dcons (gx_callOI (x := ⟨"BorrowedLives$Person", "kind", "()I"⟩) (owner := "BorrowedLives$Person") (t0 := 6) (As := []) (rest := [.int (iI 4), rv g v76]) C E rfl dX1_lays_85 (mx7_kind (cx_l X) g v82) q1206 q1209 q1207 q1208 q1207 q149 q1219 q1219 hy9_X7_kind hR (Nat.le_of_ble_eq_true rfl) (by decide) rfl rfl (by simp only [List.map_cons, List.map_nil, List.sum_cons, List.sum_nil, rv_cat, cat_int, cat_long]; decide) kk) ?_
      refine gx_dcons (gx_callOI (x := ⟨"BorrowedLives$Person", "kind", "()I"⟩) (owner := "BorrowedLives$Person") (t0 := 7) (As := []) (rest := [.int (iI 4), rv g v76]) C E rfl dX1_lays_85 (mx8_kind (cx_l X) g v82) q1206 q1209 q1207 q1213 q1214 q150 q1215 q1219 hy9_X7_kind hR (Nat.le_of_ble_eq_true rfl) (by decide) rfl rfl (by simp only [List.map_cons, List.map_nil, List.sum_cons, List.sum_nil, rv_cat, cat_int, cat_long]; decide) kk) ?_
      refine gx_dcons (gx_callOI (x := ⟨"BorrowedLives$Person", "kind", "()I"⟩) (owner := "BorrowedLives$Person") (t0 := 8) (As := []) (rest := [.int (iI 4), rv g v76]) C E rfl dX1_lays_85 (mx9_kind (cx_l X) g v82) q1206 q1209 q1207 q1216 q1217 q151 q1218 q1219 hy9_X7_kind hR (Nat.le_of_ble_eq_true rfl) (by decide) rfl rfl (by simp only [List.map_cons, List.map_nil, List.sum_cons, List.sum_nil, rv_cat, cat_int, cat_long]; decide) kk) ?_
      refine gx_dcons (gx_callOI (x := ⟨"BorrowedLives$Person", "kind", "()I"⟩) (owner := "BorrowedLives$Person") (t0 := 9) (As := []) (rest := [.int (iI 4), rv g v76]) C E rfl dX1_lays_85 (mx10_kind (cx_l X) g v82) q1206 q1209 q1207 q1210 q1211 q152 q1212 q1219 hy9_X7_kind hR (Nat.le_of_ble_eq_true rfl) (by decide) rfl rfl (by simp only [List.map_cons, List.map_nil, List.sum_cons, List.sum_nil, rv_cat, cat_int, cat_long]; decide) kk) ?_
      exact gx_dnil
    refine gx_iast C E dX1_lays_88 ?_
    exact gx_vret C hQ hr dX1_lays_89
  unfold x1_lays
  refine gx_aload_n C dX1_lays_0 0 rfl ?_
  refine gx_gR (O := "BorrowedLives") (nm := "facts") (ds := "[I") (fin := true) C E dX1_lays_1 (by decide +kernel) (Or.inl q387) (fun _ h => h) (fun v1 => ?_)
  refine gj_iconst C dX1_lays_4 ?_
  refine gj_iload C dX1_lays_5 4 rfl ?_
  refine gj_if_eq (tgt := 19) C dX1_lays_7 (by decide) (fun h7 => gj_pos h7 ?_) (fun h7 => gj_neg h7 ?_)
  · refine gj_iconst C dX1_lays_19 ?_
    refine gx_aload_n C dX1_lays_20 1 rfl ?_
    refine gx_gR (O := "BorrowedLives$State") (nm := "purse") (ds := "[I") (fin := true) C E dX1_lays_21 (by decide +kernel) (Or.inr ⟨_, q292⟩) (fun _ h => h) (fun v21 => ?_)
    refine gj_iload_n C dX1_lays_24 2 rfl ?_
    refine gx_iald C E dX1_lays_25 (fun v25 => ?_)
    refine gx_aload_n C dX1_lays_26 1 rfl ?_
    refine gx_gR (O := "BorrowedLives$State") (nm := "hidden") (ds := "[I") (fin := true) C E dX1_lays_27 (by decide +kernel) (Or.inr ⟨_, q299⟩) (fun _ h => h) (fun v27 => ?_)
    refine gj_iload_n C dX1_lays_30 2 rfl ?_
    refine gx_iald C E dX1_lays_31 (fun v31 => ?_)
    refine gj_isub C dX1_lays_32 ?_
    refine gx_max C E dX1_lays_33 q1343 q514 q137 q515 hR (Nat.le_of_ble_eq_true rfl) (by simp only [List.map_cons, List.map_nil, List.sum_cons, List.sum_nil, rv_cat, cat_int, cat_long]; decide) ?_
    exact gj_to [0, 1, 2, 3] (J36 a0 a1 a2 a3 v1 0 (zmax 0 ((v25 - v31)))) rfl
  · refine gx_aload_n C dX1_lays_10 1 rfl ?_
    refine gx_gR (O := "BorrowedLives$State") (nm := "purse") (ds := "[I") (fin := true) C E dX1_lays_11 (by decide +kernel) (Or.inr ⟨_, q292⟩) (fun _ h => h) (fun v11 => ?_)
    refine gj_iload_n C dX1_lays_14 2 rfl ?_
    refine gx_iald C E dX1_lays_15 (fun v15 => ?_)
    refine gj_goto (tgt := 36) C dX1_lays_16 (by decide) ?_
    exact gj_to [0, 1, 2, 3] (J36 a0 a1 a2 a3 v1 0 v15) rfl
def x12_worked (a0 a1 : Option Nat) : PT Hp Int :=
  pbnd (xgI a0 10 0) fun v1 =>
  pret v1
set_option maxHeartbeats 4000000 in
set_option maxRecDepth 100000 in
theorem mx12_worked (l : Launch) (g : XG) (a0 a1 : Option Nat) : XMet l g yX12_worked cX12_worked 2 (Option.some Jvm.ClassFile.FieldType.int) (0) [rv g a0, rv g a1] (x12_worked a0 a1) rvI := by
  refine gx_start (by decide +kernel) (by have e := lg_sl_len [rv g a0, rv g a1]; simp only [List.map_cons, List.map_nil, List.sum_cons, List.sum_nil, rv_cat, cat_int, cat_long] at e; omega) (fun X Q σ0 hl C E hQ hR hr hnm => ?_)
  subst hl
  rw [show lv_args 0 [rv g a0, rv g a1] = [(0, rv g a0), (1, rv g a1)] from by simp [lv_args, rv_cat, cat_int, cat_long]]
  show GJ X 2 (xWo g σ0 (cx_s X).heap) Q (x12_worked a0 a1) 0 [(0, rv g a0), (1, rv g a1)] []
  unfold x12_worked
  refine gx_aload_n C dX12_worked_0 0 rfl ?_
  refine gx_gI (O := "BorrowedLives$Given") (nm := "n") (ds := "I") (fin := true) C E dX12_worked_1 (by decide +kernel) (Or.inl q1066) (fun _ h => h) (fun v1 => ?_)
  exact gx_iret C hQ hr dX12_worked_4
def x13_worked (a0 a1 : Option Nat) : PT Hp Int :=
  pbnd (xgI a0 11 0) fun v2 =>
  pbnd (xld a1 40 v2) fun v5 =>
  pret v5
set_option maxHeartbeats 4000000 in
set_option maxRecDepth 100000 in
theorem mx13_worked (l : Launch) (g : XG) (a0 a1 : Option Nat) : XMet l g yX13_worked cX13_worked 2 (Option.some Jvm.ClassFile.FieldType.int) (0) [rv g a0, rv g a1] (x13_worked a0 a1) rvI := by
  refine gx_start (by decide +kernel) (by have e := lg_sl_len [rv g a0, rv g a1]; simp only [List.map_cons, List.map_nil, List.sum_cons, List.sum_nil, rv_cat, cat_int, cat_long] at e; omega) (fun X Q σ0 hl C E hQ hR hr hnm => ?_)
  subst hl
  rw [show lv_args 0 [rv g a0, rv g a1] = [(0, rv g a0), (1, rv g a1)] from by simp [lv_args, rv_cat, cat_int, cat_long]]
  show GJ X 2 (xWo g σ0 (cx_s X).heap) Q (x13_worked a0 a1) 0 [(0, rv g a0), (1, rv g a1)] []
  unfold x13_worked
  refine gx_aload_n C dX13_worked_0 1 rfl ?_
  refine gx_aload_n C dX13_worked_1 0 rfl ?_
  refine gx_gI (O := "BorrowedLives$Fact") (nm := "which") (ds := "I") (fin := true) C E dX13_worked_2 (by decide +kernel) (Or.inl q1076) (fun _ h => h) (fun v2 => ?_)
  refine gx_iald C E dX13_worked_5 (fun v5 => ?_)
  exact gx_iret C hQ hr dX13_worked_6
def x14_worked_s (sN : Option Nat → Option Nat → PT Hp Int) (sT : Option Nat → Option Nat → PT Hp Int) (a0 a1 : Option Nat) : PT Hp Int :=
  pbnd (xgR a0 12 0) fun v1 =>
  pbnd (xdisp v1 [(10, x12_worked v1 a1), (11, x13_worked v1 a1), (12, sN v1 a1), (13, sT v1 a1)]) fun v5 =>
  plet (if w32 v5 = 0 then 1 else 0) fun d16 =>
  pret (w32 d16)
set_option maxHeartbeats 4000000 in
set_option maxRecDepth 100000 in
theorem mx14_worked_s (l : Launch) (g : XG) {kS : Nat} (hkS : 1 ≤ kS) {sN sT : Option Nat → Option Nat → PT Hp Int} (hN : ∀ (a0 a1 : Option Nat), XMet l g yX14_worked cX14_worked 2 (Option.some Jvm.ClassFile.FieldType.int) (kS) [rv g a0, rv g a1] (sN a0 a1) rvI) (hT : ∀ (a0 a1 : Option Nat), XMet l g yX15_worked cX15_worked 4 (Option.some Jvm.ClassFile.FieldType.int) (kS) [rv g a0, rv g a1] (sT a0 a1) rvI) (a0 a1 : Option Nat) : XMet l g yX14_worked cX14_worked 2 (Option.some Jvm.ClassFile.FieldType.int) (kS + 1) [rv g a0, rv g a1] (x14_worked_s sN sT a0 a1) rvI := by
  refine gx_start (by decide +kernel) (by have e := lg_sl_len [rv g a0, rv g a1]; simp only [List.map_cons, List.map_nil, List.sum_cons, List.sum_nil, rv_cat, cat_int, cat_long] at e; omega) (fun X Q σ0 hl C E hQ hR hr hnm => ?_)
  subst hl
  rw [show lv_args 0 [rv g a0, rv g a1] = [(0, rv g a0), (1, rv g a1)] from by simp [lv_args, rv_cat, cat_int, cat_long]]
  show GJ X 2 (xWo g σ0 (cx_s X).heap) Q (x14_worked_s sN sT a0 a1) 0 [(0, rv g a0), (1, rv g a1)] []
  unfold x14_worked_s
  refine gx_aload_n C dX14_worked_0 0 rfl ?_
  refine gx_gR (O := "BorrowedLives$Not") (nm := "part") (ds := "LBorrowedLives$Expression;") (fin := true) C E dX14_worked_1 (by decide +kernel) (Or.inl q1086) (fun _ h => h) (fun v1 => ?_)
  refine gx_aload_n C dX14_worked_4 1 rfl ?_
  refine gx_shI (rest := []) (fun kk => ?_) (fun v5 => ?_)
  · refine gx_dcons (gx_callAI (x := ⟨"BorrowedLives$Expression", "worked", "([I)I"⟩) (owner := "BorrowedLives$Expression") (t0 := 10) (As := [rv g a1]) (rest := []) C E rfl dX14_worked_5 (mx12_worked (cx_l X) g v1 a1) q1356 q1346 q1350 q1351 q154 q1352 q1345 hy9_X11_worked hR (by omega) (by decide) rfl rfl (Nat.zero_le _) kk) ?_
    refine gx_dcons (gx_callAI (x := ⟨"BorrowedLives$Expression", "worked", "([I)I"⟩) (owner := "BorrowedLives$Expression") (t0 := 11) (As := [rv g a1]) (rest := []) C E rfl dX14_worked_5 (mx13_worked (cx_l X) g v1 a1) q1356 q1346 q1347 q1348 q155 q1349 q1345 hy9_X11_worked hR (by omega) (by decide) rfl rfl (Nat.zero_le _) kk) ?_
    refine gx_dcons (gx_callAI (x := ⟨"BorrowedLives$Expression", "worked", "([I)I"⟩) (owner := "BorrowedLives$Expression") (t0 := 12) (As := [rv g a1]) (rest := []) C E rfl dX14_worked_5 (hN v1 a1) q1356 q1346 q1353 q1354 q156 q1355 q1345 hy9_X11_worked hR (by omega) (by decide) rfl rfl (Nat.zero_le _) kk) ?_
    refine gx_dcons (gx_callAI (x := ⟨"BorrowedLives$Expression", "worked", "([I)I"⟩) (owner := "BorrowedLives$Expression") (t0 := 13) (As := [rv g a1]) (rest := []) C E rfl dX14_worked_5 (hT v1 a1) q1356 q1346 q1360 q1357 q157 q1358 q1345 hy9_X11_worked hR (by omega) (by decide) rfl rfl (Nat.zero_le _) kk) ?_
    exact gx_dnil
  refine gj_dia (J := 16) (L := [(0, rv g a0), (1, rv g a1)]) (st := []) (fun d16 => ?_) (fun t hJ => ?_)
  · skip
    refine gj_nrmI ?_
    exact gx_iret C hQ hr dX14_worked_16
  · refine gj_if_ne (tgt := 15) C dX14_worked_8 (by decide) (fun h8 => ?_) (fun h8 => ?_)
    · refine gj_iconst C dX14_worked_15 ?_
      exact (by rw [if_neg h8] at hJ; exact hJ)
    · refine gj_iconst C dX14_worked_11 ?_
      refine gj_goto (tgt := 16) C dX14_worked_12 (by decide) ?_
      exact (by rw [if_pos h8] at hJ; exact hJ)
def x15_worked_s (sN : Option Nat → Option Nat → PT Hp Int) (sT : Option Nat → Option Nat → PT Hp Int) (a0 a1 : Option Nat) : PT Hp Int :=
  pbnd (xgR a0 13 1) fun v1 =>
  pbnd (xdisp v1 [(10, x12_worked v1 a1), (11, x13_worked v1 a1), (12, sN v1 a1), (13, sT v1 a1)]) fun v5 =>
  pbnd (xgR a0 13 2) fun v10 =>
  pbnd (xdisp v10 [(10, x12_worked v10 a1), (11, x13_worked v10 a1), (12, sN v10 a1), (13, sT v10 a1)]) fun v14 =>
  pbnd (xgI a0 13 0) fun v19 =>
  pite (w32 v19 = 38) (
    plet (if w32 v5 = 0 then 0 else if w32 v14 = 0 then 0 else 1) fun d127 =>
    pret (w32 d127)) (
    pite (w32 v19 = 42) (
      pret (w32 (v5 * v14))) (
      pite (w32 v19 = 43) (
        pret (w32 (v5 + v14))) (
        pite (w32 v19 = 45) (
          pret (w32 (v5 - v14))) (
          pite (w32 v19 = 60) (
            plet (if w32 v5 < w32 v14 then 1 else 0) fun d102 =>
            pret (w32 d102)) (
            pite (w32 v19 = 61) (
              plet (if w32 v5 = w32 v14 then 1 else 0) fun d113 =>
              pret (w32 d113)) (
              plet (if w32 v5 = 0 then if w32 v14 = 0 then 0 else 1 else 1) fun d141 =>
              pret (w32 d141)))))))
set_option maxHeartbeats 4000000 in
set_option maxRecDepth 100000 in
theorem mx15_worked_s (l : Launch) (g : XG) {kS : Nat} (hkS : 1 ≤ kS) {sN sT : Option Nat → Option Nat → PT Hp Int} (hN : ∀ (a0 a1 : Option Nat), XMet l g yX14_worked cX14_worked 2 (Option.some Jvm.ClassFile.FieldType.int) (kS) [rv g a0, rv g a1] (sN a0 a1) rvI) (hT : ∀ (a0 a1 : Option Nat), XMet l g yX15_worked cX15_worked 4 (Option.some Jvm.ClassFile.FieldType.int) (kS) [rv g a0, rv g a1] (sT a0 a1) rvI) (a0 a1 : Option Nat) : XMet l g yX15_worked cX15_worked 4 (Option.some Jvm.ClassFile.FieldType.int) (kS + 1) [rv g a0, rv g a1] (x15_worked_s sN sT a0 a1) rvI := by
  refine gx_start (by decide +kernel) (by have e := lg_sl_len [rv g a0, rv g a1]; simp only [List.map_cons, List.map_nil, List.sum_cons, List.sum_nil, rv_cat, cat_int, cat_long] at e; omega) (fun X Q σ0 hl C E hQ hR hr hnm => ?_)
  subst hl
  rw [show lv_args 0 [rv g a0, rv g a1] = [(0, rv g a0), (1, rv g a1)] from by simp [lv_args, rv_cat, cat_int, cat_long]]
  show GJ X 4 (xWo g σ0 (cx_s X).heap) Q (x15_worked_s sN sT a0 a1) 0 [(0, rv g a0), (1, rv g a1)] []
  unfold x15_worked_s
  refine gx_aload_n C dX15_worked_0 0 rfl ?_
  refine gx_gR (O := "BorrowedLives$Two") (nm := "a") (ds := "LBorrowedLives$Expression;") (fin := true) C E dX15_worked_1 (by decide +kernel) (Or.inl q1101) (fun _ h => h) (fun v1 => ?_)
  refine gx_aload_n C dX15_worked_4 1 rfl ?_
  refine gx_shI (rest := []) (fun kk => ?_) (fun v5 => ?_)
  · refine gx_dcons (gx_callAI (x := ⟨"BorrowedLives$Expression", "worked", "([I)I"⟩) (owner := "BorrowedLives$Expression") (t0 := 10) (As := [rv g a1]) (rest := []) C E rfl dX15_worked_5 (mx12_worked (cx_l X) g v1 a1) q1359 q1346 q1350 q1351 q154 q1352 q1345 hy9_X11_worked hR (by omega) (by decide) rfl rfl (Nat.zero_le _) kk) ?_
    refine gx_dcons (gx_callAI (x := ⟨"BorrowedLives$Expression", "worked", "([I)I"⟩) (owner := "BorrowedLives$Expression") (t0 := 11) (As := [rv g a1]) (rest := []) C E rfl dX15_worked_5 (mx13_worked (cx_l X) g v1 a1) q1359 q1346 q1347 q1348 q155 q1349 q1345 hy9_X11_worked hR (by omega) (by decide) rfl rfl (Nat.zero_le _) kk) ?_
    refine gx_dcons (gx_callAI (x := ⟨"BorrowedLives$Expression", "worked", "([I)I"⟩) (owner := "BorrowedLives$Expression") (t0 := 12) (As := [rv g a1]) (rest := []) C E rfl dX15_worked_5 (hN v1 a1) q1359 q1346 q1353 q1354 q156 q1355 q1345 hy9_X11_worked hR (by omega) (by decide) rfl rfl (Nat.zero_le _) kk) ?_
    refine gx_dcons (gx_callAI (x := ⟨"BorrowedLives$Expression", "worked", "([I)I"⟩) (owner := "BorrowedLives$Expression") (t0 := 13) (As := [rv g a1]) (rest := []) C E rfl dX15_worked_5 (hT v1 a1) q1359 q1346 q1360 q1357 q157 q1358 q1345 hy9_X11_worked hR (by omega) (by decide) rfl rfl (Nat.zero_le _) kk) ?_
    exact gx_dnil
  refine gj_istore_n (L' := [(2, .int (iI v5)), (0, rv g a0), (1, rv g a1)]) C dX15_worked_8 (by decide) (by simp [List.filter, rv_cat, cat_int, cat_long, fin4_3]) ?_
  refine gx_aload_n C dX15_worked_9 1 rfl ?_
  refine gx_gR (O := "BorrowedLives$Two") (nm := "b") (ds := "LBorrowedLives$Expression;") (fin := true) C E dX15_worked_10 (by decide +kernel) (Or.inl q1102) (fun _ h => h) (fun v10 => ?_)
  refine gx_aload_n C dX15_worked_13 2 rfl ?_
  refine gx_shI (rest := []) (fun kk => ?_) (fun v14 => ?_)
  · refine gx_dcons (gx_callAI (x := ⟨"BorrowedLives$Expression", "worked", "([I)I"⟩) (owner := "BorrowedLives$Expression") (t0 := 10) (As := [rv g a1]) (rest := []) C E rfl dX15_worked_14 (mx12_worked (cx_l X) g v10 a1) q1359 q1346 q1350 q1351 q154 q1352 q1345 hy9_X11_worked hR (by omega) (by decide) rfl rfl (Nat.zero_le _) kk) ?_
    refine gx_dcons (gx_callAI (x := ⟨"BorrowedLives$Expression", "worked", "([I)I"⟩) (owner := "BorrowedLives$Expression") (t0 := 11) (As := [rv g a1]) (rest := []) C E rfl dX15_worked_14 (mx13_worked (cx_l X) g v10 a1) q1359 q1346 q1347 q1348 q155 q1349 q1345 hy9_X11_worked hR (by omega) (by decide) rfl rfl (Nat.zero_le _) kk) ?_
    refine gx_dcons (gx_callAI (x := ⟨"BorrowedLives$Expression", "worked", "([I)I"⟩) (owner := "BorrowedLives$Expression") (t0 := 12) (As := [rv g a1]) (rest := []) C E rfl dX15_worked_14 (hN v10 a1) q1359 q1346 q1353 q1354 q156 q1355 q1345 hy9_X11_worked hR (by omega) (by decide) rfl rfl (Nat.zero_le _) kk) ?_
    refine gx_dcons (gx_callAI (x := ⟨"BorrowedLives$Expression", "worked", "([I)I"⟩) (owner := "BorrowedLives$Expression") (t0 := 13) (As := [rv g a1]) (rest := []) C E rfl dX15_worked_14 (hT v10 a1) q1359 q1346 q1360 q1357 q157 q1358 q1345 hy9_X11_worked hR (by omega) (by decide) rfl rfl (Nat.zero_le _) kk) ?_
    exact gx_dnil
  refine gj_istore_n (L' := [(3, _), (2, _), (0, _), (1, _)]) C dX15_worked_17 (by decide) rfl ?_
  refine gx_aload_n C dX15_worked_18 2 rfl ?_
  refine gx_gI (O := "BorrowedLives$Two") (nm := "way") (ds := "C") (fin := true) C E dX15_worked_19 (by decide +kernel) (Or.inl q1100) (fun _ h => h) (fun v19 => ?_)
  by_cases h22_0 : w32 v19 = 38
  · refine gj_pos h22_0 ?_
    refine gj_lookup (off := 92) (tgt := 114) C dX15_worked_22 (by decide) (by rw [h22_0]; decide) (by decide) ?_
    refine gj_iload_n C dX15_worked_114 1 rfl ?_
    refine gj_dia (J := 127) (L := [(3, .int (iI v14)), (2, .int (iI v5)), (0, rv g a0), (1, rv g a1)]) (st := []) (fun d127 => ?_) (fun t hJ => ?_)
    · skip
      refine gj_nrmI ?_
      exact gx_iret C hQ hr dX15_worked_127
    · refine gj_if_eq (tgt := 126) C dX15_worked_115 (by decide) (fun h115 => ?_) (fun h115 => ?_)
      · refine gj_iconst C dX15_worked_126 ?_
        exact (by rw [if_pos h115] at hJ; exact hJ)
      · refine gj_iload_n C dX15_worked_118 0 rfl ?_
        refine gj_if_eq (tgt := 126) C dX15_worked_119 (by decide) (fun h119 => ?_) (fun h119 => ?_)
        · refine gj_iconst C dX15_worked_126 ?_
          exact (by rw [if_neg h115, if_pos h119] at hJ; exact hJ)
        · refine gj_iconst C dX15_worked_122 ?_
          refine gj_goto (tgt := 127) C dX15_worked_123 (by decide) ?_
          exact (by rw [if_neg h115, if_neg h119] at hJ; exact hJ)
  · refine gj_neg h22_0 ?_
    by_cases h22_1 : w32 v19 = 42
    · refine gj_pos h22_1 ?_
      refine gj_lookup (off := 66) (tgt := 88) C dX15_worked_22 (by decide) (by rw [h22_1]; decide) (by decide) ?_
      refine gj_iload_n C dX15_worked_88 1 rfl ?_
      refine gj_iload_n C dX15_worked_89 0 rfl ?_
      refine gj_imul C dX15_worked_90 ?_
      refine gj_nrmI ?_
      exact gx_iret C hQ hr dX15_worked_91
    · refine gj_neg h22_1 ?_
      by_cases h22_2 : w32 v19 = 43
      · refine gj_pos h22_2 ?_
        refine gj_lookup (off := 58) (tgt := 80) C dX15_worked_22 (by decide) (by rw [h22_2]; decide) (by decide) ?_
        refine gj_iload_n C dX15_worked_80 1 rfl ?_
        refine gj_iload_n C dX15_worked_81 0 rfl ?_
        refine gj_iadd C dX15_worked_82 ?_
        refine gj_nrmI ?_
        exact gx_iret C hQ hr dX15_worked_83
      · refine gj_neg h22_2 ?_
        by_cases h22_3 : w32 v19 = 45
        · refine gj_pos h22_3 ?_
          refine gj_lookup (off := 62) (tgt := 84) C dX15_worked_22 (by decide) (by rw [h22_3]; decide) (by decide) ?_
          refine gj_iload_n C dX15_worked_84 1 rfl ?_
          refine gj_iload_n C dX15_worked_85 0 rfl ?_
          refine gj_isub C dX15_worked_86 ?_
          refine gj_nrmI ?_
          exact gx_iret C hQ hr dX15_worked_87
        · refine gj_neg h22_3 ?_
          by_cases h22_4 : w32 v19 = 60
          · refine gj_pos h22_4 ?_
            refine gj_lookup (off := 70) (tgt := 92) C dX15_worked_22 (by decide) (by rw [h22_4]; decide) (by decide) ?_
            refine gj_iload_n C dX15_worked_92 1 rfl ?_
            refine gj_iload_n C dX15_worked_93 0 rfl ?_
            refine gj_dia (J := 102) (L := [(3, .int (iI v14)), (2, .int (iI v5)), (0, rv g a0), (1, rv g a1)]) (st := []) (fun d102 => ?_) (fun t hJ => ?_)
            · skip
              refine gj_nrmI ?_
              exact gx_iret C hQ hr dX15_worked_102
            · refine gj_icmp_ge (tgt := 101) C dX15_worked_94 (by decide) rfl rfl (fun h94 => ?_) (fun h94 => ?_)
              · refine gj_iconst C dX15_worked_101 ?_
                exact (by rw [if_neg h94] at hJ; exact hJ)
              · refine gj_iconst C dX15_worked_97 ?_
                refine gj_goto (tgt := 102) C dX15_worked_98 (by decide) ?_
                exact (by rw [if_pos h94] at hJ; exact hJ)
          · refine gj_neg h22_4 ?_
            by_cases h22_5 : w32 v19 = 61
            · refine gj_pos h22_5 ?_
              refine gj_lookup (off := 81) (tgt := 103) C dX15_worked_22 (by decide) (by rw [h22_5]; decide) (by decide) ?_
              refine gj_iload_n C dX15_worked_103 1 rfl ?_
              refine gj_iload_n C dX15_worked_104 0 rfl ?_
              refine gj_dia (J := 113) (L := [(3, .int (iI v14)), (2, .int (iI v5)), (0, rv g a0), (1, rv g a1)]) (st := []) (fun d113 => ?_) (fun t hJ => ?_)
              · skip
                refine gj_nrmI ?_
                exact gx_iret C hQ hr dX15_worked_113
              · refine gj_icmp_ne (tgt := 112) C dX15_worked_105 (by decide) rfl rfl (fun h105 => ?_) (fun h105 => ?_)
                · refine gj_iconst C dX15_worked_112 ?_
                  exact (by rw [if_neg h105] at hJ; exact hJ)
                · refine gj_iconst C dX15_worked_108 ?_
                  refine gj_goto (tgt := 113) C dX15_worked_109 (by decide) ?_
                  exact (by rw [if_pos h105] at hJ; exact hJ)
            · refine gj_neg h22_5 ?_
              refine gj_lookup (off := 106) (tgt := 128) C dX15_worked_22 (by decide) (by simp only [Op.lookupswitch.offset_cons, Op.lookupswitch.offset_nil, if_neg (Ne.symm h22_0), if_neg (Ne.symm h22_1), if_neg (Ne.symm h22_2), if_neg (Ne.symm h22_3), if_neg (Ne.symm h22_4), if_neg (Ne.symm h22_5)]) (by decide) ?_
              refine gj_iload_n C dX15_worked_128 1 rfl ?_
              refine gj_dia (J := 141) (L := [(3, .int (iI v14)), (2, .int (iI v5)), (0, rv g a0), (1, rv g a1)]) (st := []) (fun d141 => ?_) (fun t hJ => ?_)
              · skip
                refine gj_nrmI ?_
                exact gx_iret C hQ hr dX15_worked_141
              · refine gj_if_ne (tgt := 136) C dX15_worked_129 (by decide) (fun h129 => ?_) (fun h129 => ?_)
                · refine gj_iconst C dX15_worked_136 ?_
                  refine gj_goto (tgt := 141) C dX15_worked_137 (by decide) ?_
                  exact (by rw [if_neg h129] at hJ; exact hJ)
                · refine gj_iload_n C dX15_worked_132 0 rfl ?_
                  refine gj_if_eq (tgt := 140) C dX15_worked_133 (by decide) (fun h133 => ?_) (fun h133 => ?_)
                  · refine gj_iconst C dX15_worked_140 ?_
                    exact (by rw [if_pos h129, if_pos h133] at hJ; exact hJ)
                  · refine gj_iconst C dX15_worked_136 ?_
                    refine gj_goto (tgt := 141) C dX15_worked_137 (by decide) ?_
                    exact (by rw [if_pos h129, if_neg h133] at hJ; exact hJ)
def xwk : Nat → (Option Nat → Option Nat → PT Hp Int) × (Option Nat → Option Nat → PT Hp Int)
  | 0 => (fun _ _ => pfail, fun _ _ => pfail)
  | n + 1 => (x14_worked_s (xwk n).1 (xwk n).2, x15_worked_s (xwk n).1 (xwk n).2)
theorem mxwk (l : Launch) (g : XG) : ∀ (n : Nat), (∀ (a0 a1 : Option Nat), XMet l g yX14_worked cX14_worked 2 (Option.some Jvm.ClassFile.FieldType.int) (1 + n) [rv g a0, rv g a1] ((xwk n).1 a0 a1) rvI) ∧ (∀ (a0 a1 : Option Nat), XMet l g yX15_worked cX15_worked 4 (Option.some Jvm.ClassFile.FieldType.int) (1 + n) [rv g a0, rv g a1] ((xwk n).2 a0 a1) rvI) := by
  intro n
  induction n with
  | zero => exact ⟨fun a0 a1 Q σ h => h.elim, fun a0 a1 Q σ h => h.elim⟩
  | succ n ih => exact ⟨fun a0 a1 => mx14_worked_s l g (by omega) ih.1 ih.2 a0 a1, fun a0 a1 => mx15_worked_s l g (by omega) ih.1 ih.2 a0 a1⟩
def x1_goodOf (a0 a1 : Option Nat) (a2 : Int) : PT Hp Int :=
  pbnd (xrecv a0 1) fun _ =>
  pbnd (x1_lays a0 a1 a2 a2 0) fun _ =>
  pbnd (xgR a0 1 2) fun v9 =>
  pbnd (xgR v9 3 5) fun v12 =>
  pite (v12 = none) (
    pbnd (xgR a0 1 7) fun v19 =>
    pbnd (xld v19 40 0) fun v23 =>
    pbnd (xgR a0 1 7) fun v25 =>
    pbnd (xld v25 40 1) fun v29 =>
    pbnd (xgR a0 1 7) fun v34 =>
    pbnd (xld v34 40 2) fun v38 =>
    pret (w32 (((v23 - ((v29 * 2)))) + ((v38 * 10))))) (
    pbnd (xgR a0 1 2) fun v47 =>
    pbnd (xgR v47 3 5) fun v50 =>
    pbnd (xgR a0 1 7) fun v54 =>
    pbnd (xdisp v50 [(10, x12_worked v50 v54), (11, x13_worked v50 v54), (12, (xwk 700).1 v50 v54), (13, (xwk 700).2 v50 v54)]) fun v57 =>
    pret v57)
set_option maxHeartbeats 4000000 in
set_option maxRecDepth 100000 in
theorem mx1_goodOf (l : Launch) (g : XG) (a0 a1 : Option Nat) (a2 : Int) : XMet l g yX1_goodOf cX1_goodOf 3 (Option.some Jvm.ClassFile.FieldType.int) (702) [rv g a0, rv g a1, .int (iI a2)] (x1_goodOf a0 a1 a2) rvI := by
  refine gx_start (by decide +kernel) (by have e := lg_sl_len [rv g a0, rv g a1, .int (iI a2)]; simp only [List.map_cons, List.map_nil, List.sum_cons, List.sum_nil, rv_cat, cat_int, cat_long] at e; omega) (fun X Q σ0 hl C E hQ hR hr hnm => ?_)
  subst hl
  rw [show lv_args 0 [rv g a0, rv g a1, .int (iI a2)] = [(0, rv g a0), (1, rv g a1), (2, .int (iI a2))] from by simp [lv_args, rv_cat, cat_int, cat_long]]
  show GJ X 3 (xWo g σ0 (cx_s X).heap) Q (x1_goodOf a0 a1 a2) 0 [(0, rv g a0), (1, rv g a1), (2, .int (iI a2))] []
  unfold x1_goodOf
  refine gx_aload_n C dX1_goodOf_0 0 rfl ?_
  refine gx_aload_n C dX1_goodOf_1 1 rfl ?_
  refine gj_iload_n C dX1_goodOf_2 2 rfl ?_
  refine gj_iload_n C dX1_goodOf_3 2 rfl ?_
  refine gj_iconst C dX1_goodOf_4 ?_
  refine gx_callVV (t0 := 1) (As := [rv g a1, .int (iI a2), .int (iI a2), .int (iI 0)]) (rest := []) C E rfl dX1_goodOf_5 (mx1_lays (cx_l X) g a0 a1 a2 a2 0) (lw_V q1339 q1341 qs37 q125 q1342) hyx_X1_lays rfl hR (Nat.le_of_ble_eq_true rfl) (by decide) rfl rfl (Nat.zero_le _) ?_
  refine gx_aload_n C dX1_goodOf_8 0 rfl ?_
  refine gx_gR (O := "BorrowedLives") (nm := "town") (ds := "LBorrowedLives$Town;") (fin := false) C E dX1_goodOf_9 (by decide +kernel) (Or.inl q377) (fun _ h => h) (fun v9 => ?_)
  refine gx_gR (O := "BorrowedLives$Town") (nm := "good") (ds := "LBorrowedLives$Expression;") (fin := false) C E dX1_goodOf_12 (by decide +kernel) (Or.inr ⟨_, q264⟩) (fun _ h => h) (fun v12 => ?_)
  refine gx_ifnonnull (tgt := 46) C dX1_goodOf_15 (by decide) (fun h15 => gj_neg h15 ?_) (fun h15 => gj_pos h15 ?_)
  · refine gx_aload_n C dX1_goodOf_46 0 rfl ?_
    refine gx_gR (O := "BorrowedLives") (nm := "town") (ds := "LBorrowedLives$Town;") (fin := false) C E dX1_goodOf_47 (by decide +kernel) (Or.inl q377) (fun _ h => h) (fun v47 => ?_)
    refine gx_gR (O := "BorrowedLives$Town") (nm := "good") (ds := "LBorrowedLives$Expression;") (fin := false) C E dX1_goodOf_50 (by decide +kernel) (Or.inr ⟨_, q264⟩) (fun _ h => h) (fun v50 => ?_)
    refine gx_aload_n C dX1_goodOf_53 0 rfl ?_
    refine gx_gR (O := "BorrowedLives") (nm := "facts") (ds := "[I") (fin := true) C E dX1_goodOf_54 (by decide +kernel) (Or.inl q387) (fun _ h => h) (fun v54 => ?_)
    refine gx_shI (rest := []) (fun kk => ?_) (fun v57 => ?_)
    · refine gx_dcons (gx_callAI (x := ⟨"BorrowedLives$Expression", "worked", "([I)I"⟩) (owner := "BorrowedLives$Expression") (t0 := 10) (As := [rv g v54]) (rest := []) C E rfl dX1_goodOf_57 (mx12_worked (cx_l X) g v50 v54) q1344 q1346 q1350 q1351 q154 q1352 q1345 hy9_X11_worked hR (Nat.le_of_ble_eq_true rfl) (by decide) rfl rfl (Nat.zero_le _) kk) ?_
      refine gx_dcons (gx_callAI (x := ⟨"BorrowedLives$Expression", "worked", "([I)I"⟩) (owner := "BorrowedLives$Expression") (t0 := 11) (As := [rv g v54]) (rest := []) C E rfl dX1_goodOf_57 (mx13_worked (cx_l X) g v50 v54) q1344 q1346 q1347 q1348 q155 q1349 q1345 hy9_X11_worked hR (Nat.le_of_ble_eq_true rfl) (by decide) rfl rfl (Nat.zero_le _) kk) ?_
      refine gx_dcons (gx_callAI (x := ⟨"BorrowedLives$Expression", "worked", "([I)I"⟩) (owner := "BorrowedLives$Expression") (t0 := 12) (As := [rv g v54]) (rest := []) C E rfl dX1_goodOf_57 ((mxwk (cx_l X) g 700).1 v50 v54) q1344 q1346 q1353 q1354 q156 q1355 q1345 hy9_X11_worked hR (Nat.le_of_ble_eq_true rfl) (by decide) rfl rfl (Nat.zero_le _) kk) ?_
      refine gx_dcons (gx_callAI (x := ⟨"BorrowedLives$Expression", "worked", "([I)I"⟩) (owner := "BorrowedLives$Expression") (t0 := 13) (As := [rv g v54]) (rest := []) C E rfl dX1_goodOf_57 ((mxwk (cx_l X) g 700).2 v50 v54) q1344 q1346 q1360 q1357 q157 q1358 q1345 hy9_X11_worked hR (Nat.le_of_ble_eq_true rfl) (by decide) rfl rfl (Nat.zero_le _) kk) ?_
      exact gx_dnil
    exact gx_iret C hQ hr dX1_goodOf_60
  · refine gx_aload_n C dX1_goodOf_18 0 rfl ?_
    refine gx_gR (O := "BorrowedLives") (nm := "facts") (ds := "[I") (fin := true) C E dX1_goodOf_19 (by decide +kernel) (Or.inl q387) (fun _ h => h) (fun v19 => ?_)
    refine gj_iconst C dX1_goodOf_22 ?_
    refine gx_iald C E dX1_goodOf_23 (fun v23 => ?_)
    refine gx_aload_n C dX1_goodOf_24 0 rfl ?_
    refine gx_gR (O := "BorrowedLives") (nm := "facts") (ds := "[I") (fin := true) C E dX1_goodOf_25 (by decide +kernel) (Or.inl q387) (fun _ h => h) (fun v25 => ?_)
    refine gj_iconst C dX1_goodOf_28 ?_
    refine gx_iald C E dX1_goodOf_29 (fun v29 => ?_)
    refine gj_iconst C dX1_goodOf_30 ?_
    refine gj_imul C dX1_goodOf_31 ?_
    refine gj_isub C dX1_goodOf_32 ?_
    refine gx_aload_n C dX1_goodOf_33 0 rfl ?_
    refine gx_gR (O := "BorrowedLives") (nm := "facts") (ds := "[I") (fin := true) C E dX1_goodOf_34 (by decide +kernel) (Or.inl q387) (fun _ h => h) (fun v34 => ?_)
    refine gj_iconst C dX1_goodOf_37 ?_
    refine gx_iald C E dX1_goodOf_38 (fun v38 => ?_)
    refine gj_bipush C dX1_goodOf_39 rfl ?_
    refine gj_imul C dX1_goodOf_41 ?_
    refine gj_iadd C dX1_goodOf_42 ?_
    refine gj_goto (tgt := 60) C dX1_goodOf_43 (by decide) ?_
    refine gj_nrmI ?_
    exact gx_iret C hQ hr dX1_goodOf_60
def x1_deeds_j150 (a0 : Option Nat) (a1 a2 a3 a4 a5 a6 a7 : Int) (bk55 : (Int × Int × Int) → XT Hp Int) : XT Hp Int :=
  bk55 (a5, a6, a7 + 1)
def x1_deeds_j142 (a0 : Option Nat) (a1 a2 a3 a4 a7 a8 : Int) (bk55 : (Int × Int × Int) → XT Hp Int) : XT Hp Int :=
  x1_deeds_j150 a0 a1 a2 a3 a4 a7 a8 a7 bk55
def x1_deeds_b79 (a0 : Option Nat) (a1 a2 a3 a4 a5 a6 a7 : Int) (bk55 : (Int × Int × Int) → XT Hp Int) (a8 : Int) (bk79 : (Int) → XT Hp Int) : XT Hp Int :=
  pite (w32 a8 < w32 a3) (
    pbnd (xgR a0 1 5) fun v87 =>
    pbnd (xrecv a0 1) fun _ =>
    pbnd (x1_person_2 a0 a1) fun v93 =>
    pbnd (xgIs v93 [6, 7, 8, 9] 1) fun v96 =>
    pbnd (x1_deedIn a7 a3 a8) fun v104 =>
    pbnd (xrecv a0 1) fun _ =>
    pbnd (x1_does a0 v87 a2 v96 v104) fun _ =>
    bk79 (a8 + 1)) (
    pbnd (xgR a0 1 5) fun v118 =>
    pbnd (xrecv a0 1) fun _ =>
    pbnd (x1_goodOf a0 v118 a2) fun v122 =>
    pite (w32 a5 < 0) (
      x1_deeds_j142 a0 a1 a2 a3 a4 a7 v122 bk55) (
      pite (w32 a6 < w32 v122) (
        x1_deeds_j142 a0 a1 a2 a3 a4 a7 v122 bk55) (
        x1_deeds_j150 a0 a1 a2 a3 a4 a5 a6 a7 bk55)))
def x1_deeds_l79 (a0 : Option Nat) (a1 a2 a3 a4 a5 a6 a7 a8 : Int) (bk55 : (Int × Int × Int) → XT Hp Int) : XT Hp Int :=
  ploop (fun (s : (Int)) bk79 => x1_deeds_b79 a0 a1 a2 a3 a4 a5 a6 a7 bk55 s bk79) (a8)
def x1_deeds_b55 (a0 : Option Nat) (a1 a2 a3 a4 : Int) (a5 a6 a7 : Int) (bk55 : (Int × Int × Int) → XT Hp Int) : XT Hp Int :=
  pbnd (x1_power 3 a3) fun v59 =>
  pite (w32 a7 < w32 v59) (
    pbnd (xgR a0 1 5) fun v66 =>
    pbnd (xgR a0 1 4) fun v70 =>
    pbnd (xrecv v66 4) fun _ =>
    pbnd (x4_be v66 v70) fun _ =>
    x1_deeds_l79 a0 a1 a2 a3 a4 a5 a6 a7 0 bk55) (
    pite (w32 a4 = (-1)) (
      xret (w32 a6)) (
      pbnd (x1_deedIn a5 a3 a4) fun v172 =>
      xret v172))
def x1_deeds_l55 (a0 : Option Nat) (a1 a2 a3 a4 a5 a6 a7 : Int) : XT Hp Int :=
  ploop (fun (s : (Int × Int × Int)) bk55 => x1_deeds_b55 a0 a1 a2 a3 a4 s.1 s.2.1 s.2.2 bk55) (a5, a6, a7)
def x1_deeds_j43 (a0 : Option Nat) (a1 a2 a3 a4 s0 : Int) : XT Hp Int :=
  xbnd (x1_need s0) fun _ =>
  x1_deeds_l55 a0 a1 a2 a3 a4 (-1) 0 0
def x1_deeds_j42 (a0 : Option Nat) (a1 a2 a3 a4 : Int) : XT Hp Int :=
  x1_deeds_j43 a0 a1 a2 a3 a4 0
def x1_deeds (a0 : Option Nat) (a1 a2 a3 a4 : Int) : XT Hp Int :=
  pbnd (xrecv a0 1) fun _ =>
  pbnd (x1_isPerson a0 a1) fun v2 =>
  pite (w32 v2 = 0) (
    x1_deeds_j42 a0 a1 a2 a3 a4) (
    pbnd (xrecv a0 1) fun _ =>
    pbnd (x1_isPerson a0 a2) fun v10 =>
    pite (w32 v10 = 0) (
      x1_deeds_j42 a0 a1 a2 a3 a4) (
      pbnd (x1_in a3 1 7) fun v20 =>
      pite (w32 v20 = 0) (
        x1_deeds_j42 a0 a1 a2 a3 a4) (
        pbnd (x1_in a4 (-1) (a3 - 1)) fun v32 =>
        pite (w32 v32 = 0) (
          x1_deeds_j42 a0 a1 a2 a3 a4) (
          x1_deeds_j43 a0 a1 a2 a3 a4 1))))
set_option maxHeartbeats 4000000 in
set_option maxRecDepth 100000 in
theorem mx1_deeds (l : Launch) (g : XG) (hst : l.stackTraces = false) (a0 : Option Nat) (a1 a2 a3 a4 : Int) : XMetX l g nse yX1_deeds cX1_deeds 9 (Option.some Jvm.ClassFile.FieldType.int) (703) [rv g a0, .int (iI a1), .int (iI a2), .int (iI a3), .int (iI a4)] (x1_deeds a0 a1 a2 a3 a4) rvI := by
  refine gy_start (by decide +kernel) (by have e := lg_sl_len [rv g a0, .int (iI a1), .int (iI a2), .int (iI a3), .int (iI a4)]; simp only [List.map_cons, List.map_nil, List.sum_cons, List.sum_nil, rv_cat, cat_int, cat_long] at e; omega) (fun X Q σ0 hl C E hQ hR hr hX => ?_)
  subst hl
  rw [show lv_args 0 [rv g a0, .int (iI a1), .int (iI a2), .int (iI a3), .int (iI a4)] = [(0, rv g a0), (1, .int (iI a1)), (2, .int (iI a2)), (3, .int (iI a3)), (4, .int (iI a4))] from by simp [lv_args, rv_cat, cat_int, cat_long]]
  show GJ X 9 (xWo g σ0 (cx_s X).heap) Q (x1_deeds a0 a1 a2 a3 a4) 0 [(0, rv g a0), (1, .int (iI a1)), (2, .int (iI a2)), (3, .int (iI a3)), (4, .int (iI a4))] []
  have J55 : ∀ (a0 : Option Nat) (a1 a2 a3 a4 a5 a6 a7 : Int), GJ X 9 (xWo g σ0 (cx_s X).heap) Q (x1_deeds_l55 a0 a1 a2 a3 a4 a5 a6 a7) 55 [(0, rv g a0), (1, .int (iI a1)), (2, .int (iI a2)), (3, .int (iI a3)), (4, .int (iI a4)), (5, .int (iI a5)), (6, .int (iI a6)), (7, .int (iI a7))] [] := by
    intro a0 a1 a2 a3 a4 a5 a6 a7
    unfold x1_deeds_l55
    refine gj_loop (fun (s : (Int × Int × Int)) => [(0, rv g a0), (1, .int (iI a1)), (2, .int (iI a2)), (3, .int (iI a3)), (4, .int (iI a4)), (5, .int (iI (s.1))), (6, .int (iI (s.2.1))), (7, .int (iI (s.2.2)))]) (a5, a6, a7) (fun bk55 hb55 s => ?_)
    obtain ⟨a5, a6, a7⟩ := s
    show GJ X 9 (xWo g σ0 (cx_s X).heap) Q (x1_deeds_b55 a0 a1 a2 a3 a4 a5 a6 a7 bk55) 55 [(0, rv g a0), (1, .int (iI a1)), (2, .int (iI a2)), (3, .int (iI a3)), (4, .int (iI a4)), (5, .int (iI a5)), (6, .int (iI a6)), (7, .int (iI a7))] []
    have J150 : ∀ (a5 a6 a7 : Int), GJ X 9 (xWo g σ0 (cx_s X).heap) Q (x1_deeds_j150 a0 a1 a2 a3 a4 a5 a6 a7 bk55) 150 [(0, rv g a0), (1, .int (iI a1)), (2, .int (iI a2)), (3, .int (iI a3)), (4, .int (iI a4)), (5, .int (iI a5)), (6, .int (iI a6)), (7, .int (iI a7))] [] := by
      intro a5 a6 a7
      unfold x1_deeds_j150
      refine gj_iinc (L' := [(7, _), (0, _), (1, _), (2, _), (3, _), (4, _), (5, _), (6, _)]) C dX1_deeds_150 7 rfl (by decide) rfl ?_
      refine gj_goto (tgt := 55) C dX1_deeds_153 (by decide) ?_
      exact gj_to [1, 2, 3, 4, 5, 6, 7, 0] (hb55 (a5, a6, a7 + 1)) rfl
    have J142 : ∀ (a7 a8 : Int), GJ X 9 (xWo g σ0 (cx_s X).heap) Q (x1_deeds_j142 a0 a1 a2 a3 a4 a7 a8 bk55) 142 [(0, rv g a0), (1, .int (iI a1)), (2, .int (iI a2)), (3, .int (iI a3)), (4, .int (iI a4)), (7, .int (iI a7)), (8, .int (iI a8))] [] := by
      intro a7 a8
      unfold x1_deeds_j142
      refine gj_iload C dX1_deeds_142 5 rfl ?_
      refine gj_istore (L' := [(5, _), (0, _), (1, _), (2, _), (3, _), (4, _), (7, _), (8, _)]) C dX1_deeds_144 (by decide) rfl ?_
      refine gj_iload C dX1_deeds_146 7 rfl ?_
      refine gj_istore (L' := [(6, _), (5, _), (0, _), (1, _), (2, _), (3, _), (4, _), (7, _), (8, _)]) C dX1_deeds_148 (by decide) rfl ?_
      exact gj_to [2, 3, 4, 5, 6, 1, 0, 7] (J150 a7 a8 a7) rfl
    have J79 : ∀ (a5 a6 a7 a8 : Int), GJ X 9 (xWo g σ0 (cx_s X).heap) Q (x1_deeds_l79 a0 a1 a2 a3 a4 a5 a6 a7 a8 bk55) 79 [(0, rv g a0), (1, .int (iI a1)), (2, .int (iI a2)), (3, .int (iI a3)), (4, .int (iI a4)), (5, .int (iI a5)), (6, .int (iI a6)), (7, .int (iI a7)), (8, .int (iI a8))] [] := by
      intro a5 a6 a7 a8
      unfold x1_deeds_l79
      refine gj_loop (fun (s : (Int)) => [(0, rv g a0), (1, .int (iI a1)), (2, .int (iI a2)), (3, .int (iI a3)), (4, .int (iI a4)), (5, .int (iI a5)), (6, .int (iI a6)), (7, .int (iI a7)), (8, .int (iI s))]) (a8) (fun bk79 hb79 s => ?_)
      obtain ⟨a8, rfl⟩ : ∃ z, z = s := ⟨s, rfl⟩
      show GJ X 9 (xWo g σ0 (cx_s X).heap) Q (x1_deeds_b79 a0 a1 a2 a3 a4 a5 a6 a7 bk55 a8 bk79) 79 [(0, rv g a0), (1, .int (iI a1)), (2, .int (iI a2)), (3, .int (iI a3)), (4, .int (iI a4)), (5, .int (iI a5)), (6, .int (iI a6)), (7, .int (iI a7)), (8, .int (iI a8))] []
      unfold x1_deeds_b79
      refine gj_iload C dX1_deeds_79 8 rfl ?_
      refine gj_iload_n C dX1_deeds_81 3 rfl ?_
      refine gj_icmp_ge (tgt := 116) C dX1_deeds_82 (by decide) rfl rfl (fun h82 => gj_neg h82 ?_) (fun h82 => gj_pos h82 ?_)
      · refine gx_aload_n C dX1_deeds_116 0 rfl ?_
        refine gx_aload_n C dX1_deeds_117 0 rfl ?_
        refine gx_gR (O := "BorrowedLives") (nm := "trial") (ds := "LBorrowedLives$State;") (fin := true) C E dX1_deeds_118 (by decide +kernel) (Or.inl q382) (fun _ h => h) (fun v118 => ?_)
        refine gj_iload_n C dX1_deeds_121 2 rfl ?_
        refine gx_callVI (t0 := 1) (As := [rv g v118, .int (iI a2)]) (rest := []) C E rfl dX1_deeds_122 (mx1_goodOf (cx_l X) g a0 v118 a2) (lw_V q1777 q1779 qs50 q125 q1780) hyx_X1_goodOf rfl hR (Nat.le_of_ble_eq_true rfl) (by decide) rfl rfl (Nat.zero_le _) (fun v122 => ?_)
        refine gj_istore (L' := [(8, _), (0, _), (1, _), (2, _), (3, _), (4, _), (5, _), (6, _), (7, _)]) C dX1_deeds_125 (by decide) rfl ?_
        refine gj_iload C dX1_deeds_127 6 rfl ?_
        refine gj_if_lt (tgt := 142) C dX1_deeds_129 (by decide) (fun h129 => gj_pos h129 ?_) (fun h129 => gj_neg h129 ?_)
        · exact gj_to [1, 2, 3, 4, 5, 8, 0] (J142 a7 v122) rfl
        · refine gj_iload C dX1_deeds_132 0 rfl ?_
          refine gj_iload C dX1_deeds_134 7 rfl ?_
          refine gj_icmp_gt (tgt := 142) C dX1_deeds_136 (by decide) rfl rfl (fun h136 => gj_pos h136 ?_) (fun h136 => gj_neg h136 ?_)
          · exact gj_to [1, 2, 3, 4, 5, 8, 0] (J142 a7 v122) rfl
          · refine gj_goto (tgt := 150) C dX1_deeds_139 (by decide) ?_
            exact gj_to [1, 2, 3, 4, 5, 6, 7, 8] (J150 a5 a6 a7) rfl
      · refine gx_aload_n C dX1_deeds_85 0 rfl ?_
        refine gx_aload_n C dX1_deeds_86 0 rfl ?_
        refine gx_gR (O := "BorrowedLives") (nm := "trial") (ds := "LBorrowedLives$State;") (fin := true) C E dX1_deeds_87 (by decide +kernel) (Or.inl q382) (fun _ h => h) (fun v87 => ?_)
        refine gj_iload_n C dX1_deeds_90 2 rfl ?_
        refine gx_aload_n C dX1_deeds_91 0 rfl ?_
        refine gj_iload_n C dX1_deeds_92 1 rfl ?_
        refine gx_callVR (t0 := 1) (As := [.int (iI a1)]) (rest := [.int (iI a2), rv g v87, rv g a0]) C E rfl dX1_deeds_93 (mx1_person_2 (cx_l X) g a0 a1) (lw_V q1200 q1202 qs30 q125 q1203) hyx_X1_person_2 rfl hR (Nat.le_of_ble_eq_true rfl) (by decide) rfl rfl (by simp only [List.map_cons, List.map_nil, List.sum_cons, List.sum_nil, rv_cat, cat_int, cat_long]; decide) (fun v93 => ?_)
        refine gx_gIs (O := "BorrowedLives$Person") (nm := "skill") (ds := "I") (fin := false) C E dX1_deeds_96 (by decide +kernel) (Or.inl q879) (fun _ h => h) (fun v96 => ?_)
        refine gj_iload C dX1_deeds_99 7 rfl ?_
        refine gj_iload_n C dX1_deeds_101 3 rfl ?_
        refine gj_iload C dX1_deeds_102 8 rfl ?_
        refine gx_callSI (As := [.int (iI a7), .int (iI a3), .int (iI a8)]) (rest := [.int (iI v96), .int (iI a2), rv g v87, rv g a0]) C E dX1_deeds_104 (mx1_deedIn (cx_l X) g a7 a3 a8) (lw_S q1770 q1771 q125 q1772) hyx_X1_deedIn hR (Nat.le_of_ble_eq_true rfl) (by decide) rfl rfl (by simp only [List.map_cons, List.map_nil, List.sum_cons, List.sum_nil, rv_cat, cat_int, cat_long]; decide) (fun v104 => ?_)
        refine gx_callVV (t0 := 1) (As := [rv g v87, .int (iI a2), .int (iI v96), .int (iI v104)]) (rest := []) C E rfl dX1_deeds_107 (mx1_does (cx_l X) g a0 v87 a2 v96 v104) (lw_V q1773 q1775 qs49 q125 q1776) hyx_X1_does rfl hR (Nat.le_of_ble_eq_true rfl) (by decide) rfl rfl (Nat.zero_le _) ?_
        refine gj_iinc (L' := [(8, _), (0, _), (1, _), (2, _), (3, _), (4, _), (5, _), (6, _), (7, _)]) C dX1_deeds_110 8 rfl (by decide) rfl ?_
        refine gj_goto (tgt := 79) C dX1_deeds_113 (by decide) ?_
        exact gj_to [1, 2, 3, 4, 5, 6, 7, 8, 0] (hb79 (a8 + 1)) rfl
    unfold x1_deeds_b55
    refine gj_iload C dX1_deeds_55 7 rfl ?_
    refine gj_iconst C dX1_deeds_57 ?_
    refine gj_iload_n C dX1_deeds_58 3 rfl ?_
    refine gx_callSI (As := [.int (iI 3), .int (iI a3)]) (rest := [.int (iI a7)]) C E dX1_deeds_59 (mx1_power (cx_l X) g 3 a3) (lw_S q1767 q1768 q125 q1769) hyx_X1_power hR (Nat.le_of_ble_eq_true rfl) (by decide) rfl rfl (Nat.le_of_ble_eq_true rfl) (fun v59 => ?_)
    refine gj_icmp_ge (tgt := 156) C dX1_deeds_62 (by decide) rfl rfl (fun h62 => gj_neg h62 ?_) (fun h62 => gj_pos h62 ?_)
    · refine gj_iload C dX1_deeds_156 4 rfl ?_
      refine gj_iconst C dX1_deeds_158 ?_
      refine gj_icmp_ne (tgt := 167) (b' := (-1)) C dX1_deeds_159 (by decide) rfl (by decide) (fun h159 => gj_neg h159 ?_) (fun h159 => gj_pos h159 ?_)
      · refine gj_iload C dX1_deeds_167 5 rfl ?_
        refine gj_iload_n C dX1_deeds_169 3 rfl ?_
        refine gj_iload C dX1_deeds_170 4 rfl ?_
        refine gx_callSI (As := [.int (iI a5), .int (iI a3), .int (iI a4)]) (rest := []) C E dX1_deeds_172 (mx1_deedIn (cx_l X) g a5 a3 a4) (lw_S q1770 q1771 q125 q1772) hyx_X1_deedIn hR (Nat.le_of_ble_eq_true rfl) (by decide) rfl rfl (Nat.zero_le _) (fun v172 => ?_)
        exact gy_iret C hQ hr dX1_deeds_175
      · refine gj_iload C dX1_deeds_162 6 rfl ?_
        refine gj_goto (tgt := 175) C dX1_deeds_164 (by decide) ?_
        refine gj_nrmI ?_
        exact gy_iret C hQ hr dX1_deeds_175
    · refine gx_aload_n C dX1_deeds_65 0 rfl ?_
      refine gx_gR (O := "BorrowedLives") (nm := "trial") (ds := "LBorrowedLives$State;") (fin := true) C E dX1_deeds_66 (by decide +kernel) (Or.inl q382) (fun _ h => h) (fun v66 => ?_)
      refine gx_aload_n C dX1_deeds_69 0 rfl ?_
      refine gx_gR (O := "BorrowedLives") (nm := "state") (ds := "LBorrowedLives$State;") (fin := true) C E dX1_deeds_70 (by decide +kernel) (Or.inl q380) (fun _ h => h) (fun v70 => ?_)
      refine gx_callVV (t0 := 4) (As := [rv g v70]) (rest := []) C E rfl dX1_deeds_73 (mx4_be (cx_l X) g v66 v70) (lw_V q1306 q1307 q1308 q131 q1309) hyx_X4_be rfl hR (Nat.le_of_ble_eq_true rfl) (by decide) rfl rfl (Nat.zero_le _) ?_
      refine gj_iconst C dX1_deeds_76 ?_
      refine gj_istore (L' := [(8, _), (0, _), (1, _), (2, _), (3, _), (4, _), (5, _), (6, _), (7, _)]) C dX1_deeds_77 (by decide) rfl ?_
      exact gj_to [1, 2, 3, 4, 5, 6, 7, 8, 0] (J79 a5 a6 a7 0) rfl
  have J43 : ∀ (a0 : Option Nat) (a1 a2 a3 a4 s0 : Int), GJ X 9 (xWo g σ0 (cx_s X).heap) Q (x1_deeds_j43 a0 a1 a2 a3 a4 s0) 43 [(0, rv g a0), (1, .int (iI a1)), (2, .int (iI a2)), (3, .int (iI a3)), (4, .int (iI a4))] [.int (iI s0)] := by
    intro a0 a1 a2 a3 a4 s0
    unfold x1_deeds_j43
    refine gy_callSV (As := [.int (iI s0)]) (rest := []) C E hX hQ dX1_deeds_43 (mx1_need (cx_l X) g hst s0) (lw_S q1743 q1744 q125 q1745) hyx_X1_need hR (Nat.le_of_ble_eq_true rfl) (by decide) rfl rfl (Nat.zero_le _) ?_
    refine gj_iconst C dX1_deeds_46 ?_
    refine gj_istore (L' := [(5, _), (0, _), (1, _), (2, _), (3, _), (4, _)]) C dX1_deeds_47 (by decide) rfl ?_
    refine gj_iconst C dX1_deeds_49 ?_
    refine gj_istore (L' := [(6, _), (5, _), (0, _), (1, _), (2, _), (3, _), (4, _)]) C dX1_deeds_50 (by decide) rfl ?_
    refine gj_iconst C dX1_deeds_52 ?_
    refine gj_istore (L' := [(7, _), (6, _), (5, _), (0, _), (1, _), (2, _), (3, _), (4, _)]) C dX1_deeds_53 (by decide) rfl ?_
    exact gj_to [3, 4, 5, 6, 7, 2, 1, 0] (J55 a0 a1 a2 a3 a4 (-1) 0 0) rfl
  have J42 : ∀ (a0 : Option Nat) (a1 a2 a3 a4 : Int), GJ X 9 (xWo g σ0 (cx_s X).heap) Q (x1_deeds_j42 a0 a1 a2 a3 a4) 42 [(0, rv g a0), (1, .int (iI a1)), (2, .int (iI a2)), (3, .int (iI a3)), (4, .int (iI a4))] [] := by
    intro a0 a1 a2 a3 a4
    unfold x1_deeds_j42
    refine gj_iconst C dX1_deeds_42 ?_
    exact gj_to [0, 1, 2, 3, 4] (J43 a0 a1 a2 a3 a4 0) rfl
  unfold x1_deeds
  refine gx_aload_n C dX1_deeds_0 0 rfl ?_
  refine gj_iload_n C dX1_deeds_1 1 rfl ?_
  refine gx_callVI (t0 := 1) (As := [.int (iI a1)]) (rest := []) C E rfl dX1_deeds_2 (mx1_isPerson (cx_l X) g a0 a1) (lw_V q1188 q1190 qs28 q125 q1191) hyx_X1_isPerson rfl hR (Nat.le_of_ble_eq_true rfl) (by decide) rfl rfl (Nat.zero_le _) (fun v2 => ?_)
  refine gj_if_eq (tgt := 42) C dX1_deeds_5 (by decide) (fun h5 => gj_pos h5 ?_) (fun h5 => gj_neg h5 ?_)
  · exact gj_to [0, 1, 2, 3, 4] (J42 a0 a1 a2 a3 a4) rfl
  · refine gx_aload_n C dX1_deeds_8 0 rfl ?_
    refine gj_iload_n C dX1_deeds_9 2 rfl ?_
    refine gx_callVI (t0 := 1) (As := [.int (iI a2)]) (rest := []) C E rfl dX1_deeds_10 (mx1_isPerson (cx_l X) g a0 a2) (lw_V q1188 q1190 qs28 q125 q1191) hyx_X1_isPerson rfl hR (Nat.le_of_ble_eq_true rfl) (by decide) rfl rfl (Nat.zero_le _) (fun v10 => ?_)
    refine gj_if_eq (tgt := 42) C dX1_deeds_13 (by decide) (fun h13 => gj_pos h13 ?_) (fun h13 => gj_neg h13 ?_)
    · exact gj_to [0, 1, 2, 3, 4] (J42 a0 a1 a2 a3 a4) rfl
    · refine gj_iload_n C dX1_deeds_16 3 rfl ?_
      refine gj_iconst C dX1_deeds_17 ?_
      refine gj_bipush C dX1_deeds_18 rfl ?_
      refine gx_callSI (As := [.int (iI a3), .int (iI 1), .int (iI 7)]) (rest := []) C E dX1_deeds_20 (mx1_in (cx_l X) g a3 1 7) (lw_S q1197 q1198 q125 q1199) hyx_X1_in hR (Nat.le_of_ble_eq_true rfl) (by decide) rfl rfl (Nat.zero_le _) (fun v20 => ?_)
      refine gj_if_eq (tgt := 42) C dX1_deeds_23 (by decide) (fun h23 => gj_pos h23 ?_) (fun h23 => gj_neg h23 ?_)
      · exact gj_to [0, 1, 2, 3, 4] (J42 a0 a1 a2 a3 a4) rfl
      · refine gj_iload C dX1_deeds_26 4 rfl ?_
        refine gj_iconst C dX1_deeds_28 ?_
        refine gj_iload_n C dX1_deeds_29 3 rfl ?_
        refine gj_iconst C dX1_deeds_30 ?_
        refine gj_isub C dX1_deeds_31 ?_
        refine gx_callSI (As := [.int (iI a4), .int (iI (-1)), .int (iI ((a3 - 1)))]) (rest := []) C E dX1_deeds_32 (mx1_in (cx_l X) g a4 (-1) (a3 - 1)) (lw_S q1197 q1198 q125 q1199) hyx_X1_in hR (Nat.le_of_ble_eq_true rfl) (by decide) rfl rfl (Nat.zero_le _) (fun v32 => ?_)
        refine gj_if_eq (tgt := 42) C dX1_deeds_35 (by decide) (fun h35 => gj_pos h35 ?_) (fun h35 => gj_neg h35 ?_)
        · exact gj_to [0, 1, 2, 3, 4] (J42 a0 a1 a2 a3 a4) rfl
        · refine gj_iconst C dX1_deeds_38 ?_
          refine gj_goto (tgt := 43) C dX1_deeds_39 (by decide) ?_
          exact gj_to [0, 1, 2, 3, 4] (J43 a0 a1 a2 a3 a4 1) rfl
def x0_deeds (a0 : Option Nat) (a1 a2 a3 a4 : Int) (a5 : Option Nat) : PT Hp Int :=
  pbnd (xrecv a0 1) fun _ =>
  xtry (x1_deeds a0 a1 a2 a3 a4) (fun q9 =>
    pret 1
    ) fun v9 =>
  pbnd (xst a5 41 0 (w64 (zi2l v9))) fun _ =>
  pret 0
set_option maxHeartbeats 4000000 in
set_option maxRecDepth 100000 in
theorem mx0_deeds (l : Launch) (g : XG) (hst : l.stackTraces = false) (a0 : Option Nat) (a1 a2 a3 a4 : Int) (a5 : Option Nat) : XMetW l g yX0_deeds cX0_deeds 7 (Option.some Jvm.ClassFile.FieldType.int) [((0 : Nat), (14 : Nat), (17 : Nat), (13 : Nat))] (704) [rv g a0, .int (iI a1), .int (iI a2), .int (iI a3), .int (iI a4), rv g a5] (x0_deeds a0 a1 a2 a3 a4 a5) rvI := by
  refine gx_startW (by decide +kernel) (by have e := lg_sl_len [rv g a0, .int (iI a1), .int (iI a2), .int (iI a3), .int (iI a4), rv g a5]; simp only [List.map_cons, List.map_nil, List.sum_cons, List.sum_nil, rv_cat, cat_int, cat_long] at e; omega) (fun X Q σ0 hl C E hQ hR hr hTab => ?_)
  subst hl
  rw [show lv_args 0 [rv g a0, .int (iI a1), .int (iI a2), .int (iI a3), .int (iI a4), rv g a5] = [(0, rv g a0), (1, .int (iI a1)), (2, .int (iI a2)), (3, .int (iI a3)), (4, .int (iI a4)), (5, rv g a5)] from by simp [lv_args, rv_cat, cat_int, cat_long]]
  show GJ X 7 (xWo g σ0 (cx_s X).heap) Q (x0_deeds a0 a1 a2 a3 a4 a5) 0 [(0, rv g a0), (1, .int (iI a1)), (2, .int (iI a2)), (3, .int (iI a3)), (4, .int (iI a4)), (5, rv g a5)] []
  unfold x0_deeds
  refine gx_aload C dX0_deeds_0 5 rfl ?_
  refine gj_iconst C dX0_deeds_2 ?_
  refine gx_aload_n C dX0_deeds_3 0 rfl ?_
  refine gj_iload_n C dX0_deeds_4 1 rfl ?_
  refine gj_iload_n C dX0_deeds_5 2 rfl ?_
  refine gj_iload_n C dX0_deeds_6 3 rfl ?_
  refine gj_iload C dX0_deeds_7 4 rfl ?_
  refine gy_tryVI (t0 := 1) (As := [.int (iI a1), .int (iI a2), .int (iI a3), .int (iI a4)]) (rest := [.int (iI 0), rv g a5]) C E rfl dX0_deeds_9 (mx1_deeds (cx_l X) g hst a0 a1 a2 a3 a4) (lw_V q1739 q1740 q1741 q125 q1742) hyx_X1_deeds rfl hR (Nat.le_of_ble_eq_true rfl) (by decide) rfl rfl (by simp only [List.map_cons, List.map_nil, List.sum_cons, List.sum_nil, rv_cat, cat_int, cat_long]; decide) (gy_caught C E hTab (by decide) (by decide) q1738 q1748 (fun q9 => ?_)) (fun v9 => ?_)
  · refine gx_astore (L' := [(6, rv g ((some q9))), (0, rv g a0), (1, .int (iI a1)), (2, .int (iI a2)), (3, .int (iI a3)), (4, .int (iI a4)), (5, rv g a5)]) C dX0_deeds_17 (by decide) (by simp [List.filter, rv_cat, cat_int, cat_long, fin4_3]) ?_
    refine gj_iconst C dX0_deeds_19 ?_
    exact gx_iret C hQ hr dX0_deeds_20
  refine gj_i2l C dX0_deeds_12 ?_
  refine gj_nrmL ?_
  refine gx_last C E dX0_deeds_13 ?_
  refine gj_goto (tgt := 21) C dX0_deeds_14 (by decide) ?_
  refine gj_iconst C dX0_deeds_21 ?_
  exact gx_iret C hQ hr dX0_deeds_22
def x1_gets (a0 a1 a2 a3 a4 : Int) : PT Hp Int :=
  pret (w32 (((((a0 * a4)) + ((a1 * (zmin a3 a4))))) - ((((a2 * a3)) * a3))))
set_option maxHeartbeats 4000000 in
set_option maxRecDepth 100000 in
theorem mx1_gets (l : Launch) (g : XG) (a0 a1 a2 a3 a4 : Int) : XMet l g yX1_gets cX1_gets 5 (Option.some Jvm.ClassFile.FieldType.int) (1) [.int (iI a0), .int (iI a1), .int (iI a2), .int (iI a3), .int (iI a4)] (x1_gets a0 a1 a2 a3 a4) rvI := by
  refine gx_start (by decide +kernel) (by have e := lg_sl_len [.int (iI a0), .int (iI a1), .int (iI a2), .int (iI a3), .int (iI a4)]; simp only [List.map_cons, List.map_nil, List.sum_cons, List.sum_nil, rv_cat, cat_int, cat_long] at e; omega) (fun X Q σ0 hl C E hQ hR hr hnm => ?_)
  subst hl
  show GJ X 5 (xWo g σ0 (cx_s X).heap) Q (x1_gets a0 a1 a2 a3 a4) 0 [(0, .int (iI a0)), (1, .int (iI a1)), (2, .int (iI a2)), (3, .int (iI a3)), (4, .int (iI a4))] []
  unfold x1_gets
  refine gj_iload_n C dX1_gets_0 0 rfl ?_
  refine gj_iload C dX1_gets_1 4 rfl ?_
  refine gj_imul C dX1_gets_3 ?_
  refine gj_iload_n C dX1_gets_4 1 rfl ?_
  refine gj_iload_n C dX1_gets_5 3 rfl ?_
  refine gj_iload C dX1_gets_6 4 rfl ?_
  refine gx_min C E dX1_gets_8 q1361 q517 q137 q518 hR (Nat.le_of_ble_eq_true rfl) (Nat.le_of_ble_eq_true rfl) ?_
  refine gj_imul C dX1_gets_11 ?_
  refine gj_iadd C dX1_gets_12 ?_
  refine gj_iload_n C dX1_gets_13 2 rfl ?_
  refine gj_iload_n C dX1_gets_14 3 rfl ?_
  refine gj_imul C dX1_gets_15 ?_
  refine gj_iload_n C dX1_gets_16 3 rfl ?_
  refine gj_imul C dX1_gets_17 ?_
  refine gj_isub C dX1_gets_18 ?_
  refine gj_nrmI ?_
  exact gx_iret C hQ hr dX1_gets_19
def x1_isRest_b3 (a0 a1 a2 a3 a4 : Int) (a5 : Int) (bk3 : (Int) → PT Hp Int) : PT Hp Int :=
  pite (5 < w32 a5) (
    pbnd (pzo 1) fun _ => pret 1) (
    pbnd (x1_gets a0 a1 a2 a5 a4) fun v16 =>
    pbnd (x1_gets a0 a1 a2 a3 a4) fun v25 =>
    pite (w32 v25 < w32 v16) (
      pbnd (pzo 0) fun _ => pret 0) (
      pbnd (x1_gets a0 a1 a2 a5 a3) fun v37 =>
      pbnd (x1_gets a0 a1 a2 a4 a3) fun v46 =>
      pite (w32 v46 < w32 v37) (
        pbnd (pzo 0) fun _ => pret 0) (
        bk3 (a5 + 1))))
def x1_isRest_l3 (a0 a1 a2 a3 a4 a5 : Int) : PT Hp Int :=
  ploop (fun (s : (Int)) bk3 => x1_isRest_b3 a0 a1 a2 a3 a4 s bk3) (a5)
def x1_isRest (a0 a1 a2 a3 a4 : Int) : PT Hp Int :=
  x1_isRest_l3 a0 a1 a2 a3 a4 0
set_option maxHeartbeats 4000000 in
set_option maxRecDepth 100000 in
theorem mx1_isRest (l : Launch) (g : XG) (a0 a1 a2 a3 a4 : Int) : XMet l g yX1_isRest cX1_isRest 6 (Option.some Jvm.ClassFile.FieldType.boolean) (2) [.int (iI a0), .int (iI a1), .int (iI a2), .int (iI a3), .int (iI a4)] (x1_isRest a0 a1 a2 a3 a4) rvI := by
  refine gx_start (by decide +kernel) (by have e := lg_sl_len [.int (iI a0), .int (iI a1), .int (iI a2), .int (iI a3), .int (iI a4)]; simp only [List.map_cons, List.map_nil, List.sum_cons, List.sum_nil, rv_cat, cat_int, cat_long] at e; omega) (fun X Q σ0 hl C E hQ hR hr hnm => ?_)
  subst hl
  show GJ X 6 (xWo g σ0 (cx_s X).heap) Q (x1_isRest a0 a1 a2 a3 a4) 0 [(0, .int (iI a0)), (1, .int (iI a1)), (2, .int (iI a2)), (3, .int (iI a3)), (4, .int (iI a4))] []
  have J3 : ∀ (a0 a1 a2 a3 a4 a5 : Int), GJ X 6 (xWo g σ0 (cx_s X).heap) Q (x1_isRest_l3 a0 a1 a2 a3 a4 a5) 3 [(0, .int (iI a0)), (1, .int (iI a1)), (2, .int (iI a2)), (3, .int (iI a3)), (4, .int (iI a4)), (5, .int (iI a5))] [] := by
    intro a0 a1 a2 a3 a4 a5
    unfold x1_isRest_l3
    refine gj_loop (fun (s : (Int)) => [(0, .int (iI a0)), (1, .int (iI a1)), (2, .int (iI a2)), (3, .int (iI a3)), (4, .int (iI a4)), (5, .int (iI s))]) (a5) (fun bk3 hb3 s => ?_)
    obtain ⟨a5, rfl⟩ : ∃ z, z = s := ⟨s, rfl⟩
    show GJ X 6 (xWo g σ0 (cx_s X).heap) Q (x1_isRest_b3 a0 a1 a2 a3 a4 a5 bk3) 3 [(0, .int (iI a0)), (1, .int (iI a1)), (2, .int (iI a2)), (3, .int (iI a3)), (4, .int (iI a4)), (5, .int (iI a5))] []
    unfold x1_isRest_b3
    refine gj_iload C dX1_isRest_3 5 rfl ?_
    refine gj_iconst C dX1_isRest_5 ?_
    refine gj_icmp_gt (tgt := 60) (b' := 5) C dX1_isRest_6 (by decide) rfl (by decide) (fun h6 => gj_pos h6 ?_) (fun h6 => gj_neg h6 ?_)
    · refine gj_iconst C dX1_isRest_60 ?_
      exact gx_zret C hQ hr dX1_isRest_61
    · refine gj_iload_n C dX1_isRest_9 0 rfl ?_
      refine gj_iload_n C dX1_isRest_10 1 rfl ?_
      refine gj_iload_n C dX1_isRest_11 2 rfl ?_
      refine gj_iload C dX1_isRest_12 5 rfl ?_
      refine gj_iload C dX1_isRest_14 4 rfl ?_
      refine gx_callSI (As := [.int (iI a0), .int (iI a1), .int (iI a2), .int (iI a5), .int (iI a4)]) (rest := []) C E dX1_isRest_16 (mx1_gets (cx_l X) g a0 a1 a2 a5 a4) (lw_S q1791 q1792 q125 q1793) hyx_X1_gets hR (Nat.le_of_ble_eq_true rfl) (by decide) rfl rfl (Nat.zero_le _) (fun v16 => ?_)
      refine gj_iload_n C dX1_isRest_19 0 rfl ?_
      refine gj_iload_n C dX1_isRest_20 1 rfl ?_
      refine gj_iload_n C dX1_isRest_21 2 rfl ?_
      refine gj_iload_n C dX1_isRest_22 3 rfl ?_
      refine gj_iload C dX1_isRest_23 4 rfl ?_
      refine gx_callSI (As := [.int (iI a0), .int (iI a1), .int (iI a2), .int (iI a3), .int (iI a4)]) (rest := [.int (iI v16)]) C E dX1_isRest_25 (mx1_gets (cx_l X) g a0 a1 a2 a3 a4) (lw_S q1791 q1792 q125 q1793) hyx_X1_gets hR (Nat.le_of_ble_eq_true rfl) (by decide) rfl rfl (Nat.le_of_ble_eq_true rfl) (fun v25 => ?_)
      refine gj_icmp_gt (tgt := 52) C dX1_isRest_28 (by decide) rfl rfl (fun h28 => gj_pos h28 ?_) (fun h28 => gj_neg h28 ?_)
      · refine gj_iconst C dX1_isRest_52 ?_
        exact gx_zret C hQ hr dX1_isRest_53
      · refine gj_iload_n C dX1_isRest_31 0 rfl ?_
        refine gj_iload_n C dX1_isRest_32 1 rfl ?_
        refine gj_iload_n C dX1_isRest_33 2 rfl ?_
        refine gj_iload C dX1_isRest_34 5 rfl ?_
        refine gj_iload_n C dX1_isRest_36 3 rfl ?_
        refine gx_callSI (As := [.int (iI a0), .int (iI a1), .int (iI a2), .int (iI a5), .int (iI a3)]) (rest := []) C E dX1_isRest_37 (mx1_gets (cx_l X) g a0 a1 a2 a5 a3) (lw_S q1791 q1792 q125 q1793) hyx_X1_gets hR (Nat.le_of_ble_eq_true rfl) (by decide) rfl rfl (Nat.zero_le _) (fun v37 => ?_)
        refine gj_iload_n C dX1_isRest_40 0 rfl ?_
        refine gj_iload_n C dX1_isRest_41 1 rfl ?_
        refine gj_iload_n C dX1_isRest_42 2 rfl ?_
        refine gj_iload C dX1_isRest_43 4 rfl ?_
        refine gj_iload_n C dX1_isRest_45 3 rfl ?_
        refine gx_callSI (As := [.int (iI a0), .int (iI a1), .int (iI a2), .int (iI a4), .int (iI a3)]) (rest := [.int (iI v37)]) C E dX1_isRest_46 (mx1_gets (cx_l X) g a0 a1 a2 a4 a3) (lw_S q1791 q1792 q125 q1793) hyx_X1_gets hR (Nat.le_of_ble_eq_true rfl) (by decide) rfl rfl (Nat.le_of_ble_eq_true rfl) (fun v46 => ?_)
        refine gj_icmp_le (tgt := 54) C dX1_isRest_49 (by decide) rfl rfl (fun h49 => gj_neg h49 ?_) (fun h49 => gj_pos h49 ?_)
        · refine gj_iinc (L' := [(5, _), (0, _), (1, _), (2, _), (3, _), (4, _)]) C dX1_isRest_54 5 rfl (by decide) rfl ?_
          refine gj_goto (tgt := 3) C dX1_isRest_57 (by decide) ?_
          exact gj_to [1, 2, 3, 4, 5, 0] (hb3 (a5 + 1)) rfl
        · refine gj_iconst C dX1_isRest_52 ?_
          exact gx_zret C hQ hr dX1_isRest_53
  unfold x1_isRest
  refine gj_iconst C dX1_isRest_0 ?_
  refine gj_istore (L' := [(5, _), (0, _), (1, _), (2, _), (3, _), (4, _)]) C dX1_isRest_1 (by decide) rfl ?_
  exact gj_to [1, 2, 3, 4, 5, 0] (J3 a0 a1 a2 a3 a4 0) rfl
