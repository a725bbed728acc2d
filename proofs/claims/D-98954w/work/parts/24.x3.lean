/-! THE COMPONENT: its methods as pure programs, and that the machine runs so (X7.findsHidden, X9.findsHidden, X1.lays, X12.worked, X13.worked, X15.worked, X1.between, X7.spends, X8.spends, X4.gets, X10.paysDebts, X7.paysDebts, X1.poorest, X1.spends, X1.mends, X1.passes, X22.lives, X4.harmOfAll, X25.sees, X26.sees, X1.fits): printed by genx.py -/
def x7_findsHidden (a0 : Option Nat) : PT Hp Int :=
  pbnd (pzo 0) fun _ => pret 0
set_option maxHeartbeats 4000000 in
set_option maxRecDepth 100000 in
theorem mx7_findsHidden (l : Launch) (g : XG) (a0 : Option Nat) : XMet l g yX7_findsHidden cX7_findsHidden 1 (Option.some Jvm.ClassFile.FieldType.boolean) (0) [rv g a0] (x7_findsHidden a0) rvI := by
  refine gx_start (by decide +kernel) (by have e := lg_sl_len [rv g a0]; simp only [List.map_cons, List.map_nil, List.sum_cons, List.sum_nil, rv_cat, cat_int, cat_long] at e; omega) (fun X Q σ0 hl C E hQ hR hr hnm => ?_)
  subst hl
  rw [show lv_args 0 [rv g a0] = [(0, rv g a0)] from by simp [lv_args, rv_cat, cat_int, cat_long]]
  show GJ X 1 (xWo g σ0 (cx_s X).heap) Q (x7_findsHidden a0) 0 [(0, rv g a0)] []
  unfold x7_findsHidden
  refine gj_iconst C dX7_findsHidden_0 ?_
  exact gx_zret C hQ hr dX7_findsHidden_1
def x9_findsHidden (a0 : Option Nat) : PT Hp Int :=
  pbnd (pzo 1) fun _ => pret 1
set_option maxHeartbeats 4000000 in
set_option maxRecDepth 100000 in
theorem mx9_findsHidden (l : Launch) (g : XG) (a0 : Option Nat) : XMet l g yX9_findsHidden cX9_findsHidden 1 (Option.some Jvm.ClassFile.FieldType.boolean) (0) [rv g a0] (x9_findsHidden a0) rvI := by
  refine gx_start (by decide +kernel) (by have e := lg_sl_len [rv g a0]; simp only [List.map_cons, List.map_nil, List.sum_cons, List.sum_nil, rv_cat, cat_int, cat_long] at e; omega) (fun X Q σ0 hl C E hQ hR hr hnm => ?_)
  subst hl
  rw [show lv_args 0 [rv g a0] = [(0, rv g a0)] from by simp [lv_args, rv_cat, cat_int, cat_long]]
  show GJ X 1 (xWo g σ0 (cx_s X).heap) Q (x9_findsHidden a0) 0 [(0, rv g a0)] []
  unfold x9_findsHidden
  refine gj_iconst C dX9_findsHidden_0 ?_
  exact gx_zret C hQ hr dX9_findsHidden_1
def x1_lays_j36 (a0 a1 : Option Nat) (a2 a3 : Int) (s0 : Option Nat) (s1 s2 : Int) : PT Hp Unit :=
  pbnd (xst s0 40 s1 s2) fun _ =>
  pbnd (xgR a0 1 7) fun v38 =>
  pbnd (xgR a1 4 1) fun v43 =>
  pbnd (xld v43 40 a2) fun v47 =>
  pbnd (xst v38 40 1 v47) fun _ =>
  pbnd (xgR a0 1 7) fun v50 =>
  pbnd (xgR a1 4 2) fun v55 =>
  pbnd (xld v55 40 a2) fun v59 =>
  pbnd (xst v50 40 2 v59) fun _ =>
  pbnd (xgR a0 1 7) fun v62 =>
  pbnd (xrecv a0 1) fun _ =>
  pbnd (x1_person_2 a0 a3) fun v68 =>
  pbnd (xgIs v68 [6, 7, 8, 9] 1) fun v71 =>
  pbnd (xst v62 40 3 v71) fun _ =>
  pbnd (xgR a0 1 7) fun v76 =>
  pbnd (xrecv a0 1) fun _ =>
  pbnd (x1_person_2 a0 a3) fun v82 =>
  pbnd (xdisp v82 [(6, x7_kind v82), (7, x8_kind v82), (8, x9_kind v82), (9, x10_kind v82)]) fun v85 =>
  pbnd (xst v76 40 4 v85) fun _ =>
  pret ()
def x1_lays (a0 a1 : Option Nat) (a2 a3 a4 : Int) : PT Hp Unit :=
  pbnd (xgR a0 1 7) fun v1 =>
  pite (w32 a4 = 0) (
    pbnd (xgR a1 4 0) fun v21 =>
    pbnd (xld v21 40 a2) fun v25 =>
    pbnd (xgR a1 4 3) fun v27 =>
    pbnd (xld v27 40 a2) fun v31 =>
    x1_lays_j36 a0 a1 a2 a3 v1 0 (zmax 0 ((v25 - v31)))) (
    pbnd (xgR a1 4 0) fun v11 =>
    pbnd (xld v11 40 a2) fun v15 =>
    x1_lays_j36 a0 a1 a2 a3 v1 0 v15)
set_option maxHeartbeats 4000000 in
set_option maxRecDepth 100000 in
theorem mx1_lays (l : Launch) (g : XG) (a0 a1 : Option Nat) (a2 a3 a4 : Int) : XMet l g yX1_lays cX1_lays 5 (Option.none : Option Jvm.ClassFile.FieldType) (4) [rv g a0, rv g a1, .int (iI a2), .int (iI a3), .int (iI a4)] (x1_lays a0 a1 a2 a3 a4) rvV := by
  refine gx_start (by decide +kernel) (by have e := lg_sl_len [rv g a0, rv g a1, .int (iI a2), .int (iI a3), .int (iI a4)]; simp only [List.map_cons, List.map_nil, List.sum_cons, List.sum_nil, rv_cat, cat_int, cat_long] at e; omega) (fun X Q σ0 hl C E hQ hR hr hnm => ?_)
  subst hl
  rw [show lv_args 0 [rv g a0, rv g a1, .int (iI a2), .int (iI a3), .int (iI a4)] = [(0, rv g a0), (1, rv g a1), (2, .int (iI a2)), (3, .int (iI a3)), (4, .int (iI a4))] from by simp [lv_args, rv_cat, cat_int, cat_long]]
  show GJ X 5 (xWo g σ0 (cx_s X).heap) Q (x1_lays a0 a1 a2 a3 a4) 0 [(0, rv g a0), (1, rv g a1), (2, .int (iI a2)), (3, .int (iI a3)), (4, .int (iI a4))] []
  have J36 : ∀ (a0 a1 : Option Nat) (a2 a3 : Int) (s0 : Option Nat) (s1 s2 : Int), GJ X 5 (xWo g σ0 (cx_s X).heap) Q (x1_lays_j36 a0 a1 a2 a3 s0 s1 s2) 36 [(0, rv g a0), (1, rv g a1), (2, .int (iI a2)), (3, .int (iI a3))] [.int (iI s2), .int (iI s1), rv g s0] := by
    intro a0 a1 a2 a3 s0 s1 s2
    unfold x1_lays_j36
    refine gx_iast C E dX1_lays_36 ?_
    refine gx_aload_n C dX1_lays_37 0 rfl ?_
    refine gx_gR (O := "BorrowedLives") (nm := "facts") (ds := "[I") (fin := true) C E dX1_lays_38 (by decide +kernel) (Or.inl q387) (fun _ h => h) (fun v38 => ?_)
    refine gj_iconst C dX1_lays_41 ?_
    refine gx_aload_n C dX1_lays_42 1 rfl ?_
    refine gx_gR (O := "BorrowedLives$State") (nm := "debt") (ds := "[I") (fin := true) C E dX1_lays_43 (by decide +kernel) (Or.inr ⟨_, q294⟩) (fun _ h => h) (fun v43 => ?_)
    refine gj_iload_n C dX1_lays_46 2 rfl ?_
    refine gx_iald C E dX1_lays_47 (fun v47 => ?_)
    refine gx_iast C E dX1_lays_48 ?_
    refine gx_aload_n C dX1_lays_49 0 rfl ?_
    refine gx_gR (O := "BorrowedLives") (nm := "facts") (ds := "[I") (fin := true) C E dX1_lays_50 (by decide +kernel) (Or.inl q387) (fun _ h => h) (fun v50 => ?_)
    refine gj_iconst C dX1_lays_53 ?_
    refine gx_aload_n C dX1_lays_54 1 rfl ?_
    refine gx_gR (O := "BorrowedLives$State") (nm := "home") (ds := "[I") (fin := true) C E dX1_lays_55 (by decide +kernel) (Or.inr ⟨_, q296⟩) (fun _ h => h) (fun v55 => ?_)
    refine gj_iload_n C dX1_lays_58 2 rfl ?_
    refine gx_iald C E dX1_lays_59 (fun v59 => ?_)
    refine gx_iast C E dX1_lays_60 ?_
    refine gx_aload_n C dX1_lays_61 0 rfl ?_
    refine gx_gR (O := "BorrowedLives") (nm := "facts") (ds := "[I") (fin := true) C E dX1_lays_62 (by decide +kernel) (Or.inl q387) (fun _ h => h) (fun v62 => ?_)
    refine gj_iconst C dX1_lays_65 ?_
    refine gx_aload_n C dX1_lays_66 0 rfl ?_
    refine gj_iload_n C dX1_lays_67 3 rfl ?_
    refine gx_callVR (t0 := 1) (As := [.int (iI a3)]) (rest := [.int (iI 3), rv g v62]) C E rfl dX1_lays_68 (mx1_person_2 (cx_l X) g a0 a3) (lw_V q1200 q1202 qs30 q125 q1203) hyx_X1_person_2 rfl hR (Nat.le_of_ble_eq_true rfl) (by decide) rfl rfl (by simp only [List.map_cons, List.map_nil, List.sum_cons, List.sum_nil, rv_cat, cat_int, cat_long]; decide) (fun v68 => ?_)
    refine gx_gIs (O := "BorrowedLives$Person") (nm := "skill") (ds := "I") (fin := false) C E dX1_lays_71 (by decide +kernel) (Or.inl q879) (fun _ h => h) (fun v71 => ?_)
    refine gx_iast C E dX1_lays_74 ?_
    refine gx_aload_n C dX1_lays_75 0 rfl ?_
    refine gx_gR (O := "BorrowedLives") (nm := "facts") (ds := "[I") (fin := true) C E dX1_lays_76 (by decide +kernel) (Or.inl q387) (fun _ h => h) (fun v76 => ?_)
    refine gj_iconst C dX1_lays_79 ?_
    refine gx_aload_n C dX1_lays_80 0 rfl ?_
    refine gj_iload_n C dX1_lays_81 3 rfl ?_
    refine gx_callVR (t0 := 1) (As := [.int (iI a3)]) (rest := [.int (iI 4), rv g v76]) C E rfl dX1_lays_82 (mx1_person_2 (cx_l X) g a0 a3) (lw_V q1200 q1202 qs30 q125 q1203) hyx_X1_person_2 rfl hR (Nat.le_of_ble_eq_true rfl) (by decide) rfl rfl (by simp only [List.map_cons, List.map_nil, List.sum_cons, List.sum_nil, rv_cat, cat_int, cat_long]; decide) (fun v82 => ?_)
    refine gx_shI (rest := [.int (iI 4), rv g v76]) (fun kk => ?_) (fun v85 => ?_)
    · refine gx_dcons (gx_callOI (x := ⟨"BorrowedLives$Person", "kind", "()I"⟩) (owner := "BorrowedLives$Person") (t0 := 6) (As := []) (rest := [.int (iI 4), rv g v76]) C E rfl dX1_lays_85 (mx7_kind (cx_l X) g v82) q1206 q1209 q1207 q1208 q1207 q149 q1219 q1219 hy9_X7_kind hR (Nat.le_of_ble_eq_true rfl) (by decide) rfl rfl (by simp only [List.map_cons, List.map_nil, List.sum_cons, List.sum_nil, rv_cat, cat_int, cat_long]; decide) kk) ?_
      refine gx_dcons (gx_callOI (x := ⟨"BorrowedLives$Person", "kind", "()I"⟩) (owner := "BorrowedLives$Person") (t0 := 7) (As := []) (rest := [.int (iI 4), rv g v76]) C E rfl dX1_lays_85 (mx8_kind (cx_l X) g v82) q1206 q1209 q1207 q1213 q1214 q150 q1215 q1219 hy9_X7_kind hR (Nat.le_of_ble_eq_true rfl) (by decide) rfl rfl (by simp only [List.map_cons, List.map_nil, List.sum_cons, List.sum_nil, rv_cat, cat_int, cat_long]; decide) kk) ?_
      refine gx_dcons (gx_callOI (x := ⟨"BorrowedLives$Person", "kind", "()I"⟩) (owner := "BorrowedLives$Person") (t0 := 8) (As := []) (rest := [.int (iI 4), rv g v76]) C E rfl dX1_lays_85 (mx9_kind (cx_l X) g v82) q1206 q1209 q1207 q1216 q1217 q151 q1218 q1219 hy9_X7_kind hR (Nat.le_of_ble_eq_true rfl) (by decide) rfl rfl (by simp only [List.map_cons, List.map_nil, List.sum_cons, List.sum_nil, rv_cat, cat_int, cat_long]; decide) kk) ?_
      refine gx_dcons (gx_callOI (x := ⟨"BorrowedLives$Person", "kind", "()I"⟩) (owner := "BorrowedLives$Person") (t0 := 9) (As := []) (rest := [.int (iI 4), rv g v76]) C E rfl dX1_lays_85 (mx10_kind (cx_l X) g v82) q1206 q1209 q1207 q1210 q1211 q152 q1212 q1219 hy9_X7_kind hR (Nat.le_of_ble_eq_true rfl) (by decide) rfl rfl (by simp only [List.map_cons, List.map_nil, List.sum_cons, List.sum_nil, rv_cat, cat_int, cat_long]; decide) kk) ?_
      exact gx_dnil
    refine gx_iast C E dX1_lays_88 ?_
    exact gx_vret C hQ hr dX1_lays_89
  unfold x1_lays
  refine gx_aload_n C dX1_lays_0 0 rfl ?_
  refine gx_gR (O := "BorrowedLives") (nm := "facts") (ds := "[I") (fin := true) C E dX1_lays_1 (by decide +kernel) (Or.inl q387) (fun _ h => h) (fun v1 => ?_)
  refine gj_iconst C dX1_lays_4 ?_
  refine gj_iload C dX1_lays_5 4 rfl ?_
  refine gj_if_eq (tgt := 19) C dX1_lays_7 (by decide) (fun h7 => gj_pos h7 ?_) (fun h7 => gj_neg h7 ?_)
  · refine gj_iconst C dX1_lays_19 ?_
    refine gx_aload_n C dX1_lays_20 1 rfl ?_
    refine gx_gR (O := "BorrowedLives$State") (nm := "purse") (ds := "[I") (fin := true) C E dX1_lays_21 (by decide +kernel) (Or.inr ⟨_, q292⟩) (fun _ h => h) (fun v21 => ?_)
    refine gj_iload_n C dX1_lays_24 2 rfl ?_
    refine gx_iald C E dX1_lays_25 (fun v25 => ?_)
    refine gx_aload_n C dX1_lays_26 1 rfl ?_
    refine gx_gR (O := "BorrowedLives$State") (nm := "hidden") (ds := "[I") (fin := true) C E dX1_lays_27 (by decide +kernel) (Or.inr ⟨_, q299⟩) (fun _ h => h) (fun v27 => ?_)
    refine gj_iload_n C dX1_lays_30 2 rfl ?_
    refine gx_iald C E dX1_lays_31 (fun v31 => ?_)
    refine gj_isub C dX1_lays_32 ?_
    refine gx_max C E dX1_lays_33 q1343 q514 q137 q515 hR (Nat.le_of_ble_eq_true rfl) (by simp only [List.map_cons, List.map_nil, List.sum_cons, List.sum_nil, rv_cat, cat_int, cat_long]; decide) ?_
    exact gj_to [0, 1, 2, 3] (J36 a0 a1 a2 a3 v1 0 (zmax 0 ((v25 - v31)))) rfl
  · refine gx_aload_n C dX1_lays_10 1 rfl ?_
    refine gx_gR (O := "BorrowedLives$State") (nm := "purse") (ds := "[I") (fin := true) C E dX1_lays_11 (by decide +kernel) (Or.inr ⟨_, q292⟩) (fun _ h => h) (fun v11 => ?_)
    refine gj_iload_n C dX1_lays_14 2 rfl ?_
    refine gx_iald C E dX1_lays_15 (fun v15 => ?_)
    refine gj_goto (tgt := 36) C dX1_lays_16 (by decide) ?_
    exact gj_to [0, 1, 2, 3] (J36 a0 a1 a2 a3 v1 0 v15) rfl
def x12_worked (a0 a1 : Option Nat) : PT Hp Int :=
  pbnd (xgI a0 10 0) fun v1 =>
  pret v1
set_option maxHeartbeats 4000000 in
set_option maxRecDepth 100000 in
theorem mx12_worked (l : Launch) (g : XG) (a0 a1 : Option Nat) : XMet l g yX12_worked cX12_worked 2 (Option.some Jvm.ClassFile.FieldType.int) (0) [rv g a0, rv g a1] (x12_worked a0 a1) rvI := by
  refine gx_start (by decide +kernel) (by have e := lg_sl_len [rv g a0, rv g a1]; simp only [List.map_cons, List.map_nil, List.sum_cons, List.sum_nil, rv_cat, cat_int, cat_long] at e; omega) (fun X Q σ0 hl C E hQ hR hr hnm => ?_)
  subst hl
  rw [show lv_args 0 [rv g a0, rv g a1] = [(0, rv g a0), (1, rv g a1)] from by simp [lv_args, rv_cat, cat_int, cat_long]]
  show GJ X 2 (xWo g σ0 (cx_s X).heap) Q (x12_worked a0 a1) 0 [(0, rv g a0), (1, rv g a1)] []
  unfold x12_worked
  refine gx_aload_n C dX12_worked_0 0 rfl ?_
  refine gx_gI (O := "BorrowedLives$Given") (nm := "n") (ds := "I") (fin := true) C E dX12_worked_1 (by decide +kernel) (Or.inl q1066) (fun _ h => h) (fun v1 => ?_)
  exact gx_iret C hQ hr dX12_worked_4
def x13_worked (a0 a1 : Option Nat) : PT Hp Int :=
  pbnd (xgI a0 11 0) fun v2 =>
  pbnd (xld a1 40 v2) fun v5 =>
  pret v5
set_option maxHeartbeats 4000000 in
set_option maxRecDepth 100000 in
theorem mx13_worked (l : Launch) (g : XG) (a0 a1 : Option Nat) : XMet l g yX13_worked cX13_worked 2 (Option.some Jvm.ClassFile.FieldType.int) (0) [rv g a0, rv g a1] (x13_worked a0 a1) rvI := by
  refine gx_start (by decide +kernel) (by have e := lg_sl_len [rv g a0, rv g a1]; simp only [List.map_cons, List.map_nil, List.sum_cons, List.sum_nil, rv_cat, cat_int, cat_long] at e; omega) (fun X Q σ0 hl C E hQ hR hr hnm => ?_)
  subst hl
  rw [show lv_args 0 [rv g a0, rv g a1] = [(0, rv g a0), (1, rv g a1)] from by simp [lv_args, rv_cat, cat_int, cat_long]]
  show GJ X 2 (xWo g σ0 (cx_s X).heap) Q (x13_worked a0 a1) 0 [(0, rv g a0), (1, rv g a1)] []
  unfold x13_worked
  refine gx_aload_n C dX13_worked_0 1 rfl ?_
  refine gx_aload_n C dX13_worked_1 0 rfl ?_
  refine gx_gI (O := "BorrowedLives$Fact") (nm := "which") (ds := "I") (fin := true) C E dX13_worked_2 (by decide +kernel) (Or.inl q1076) (fun _ h => h) (fun v2 => ?_)
  refine gx_iald C E dX13_worked_5 (fun v5 => ?_)
  exact gx_iret C hQ hr dX13_worked_6
def x14_worked_s (sN : Option Nat → Option Nat → PT Hp Int) (sT : Option Nat → Option Nat → PT Hp Int) (a0 a1 : Option Nat) : PT Hp Int :=
  pbnd (xgR a0 12 0) fun v1 =>
  pbnd (xdisp v1 [(10, x12_worked v1 a1), (11, x13_worked v1 a1), (12, sN v1 a1), (13, sT v1 a1)]) fun v5 =>
  plet (if w32 v5 = 0 then 1 else 0) fun v16 =>
  pret v16
set_option maxHeartbeats 4000000 in
set_option maxRecDepth 100000 in
theorem mx14_worked_s (l : Launch) (g : XG) {kS : Nat} (hkS : 1 ≤ kS) {sN sT : Option Nat → Option Nat → PT Hp Int} (hN : ∀ (a0 a1 : Option Nat), XMet l g yX14_worked cX14_worked 2 (Option.some Jvm.ClassFile.FieldType.int) (kS) [rv g a0, rv g a1] (sN a0 a1) rvI) (hT : ∀ (a0 a1 : Option Nat), XMet l g yX15_worked cX15_worked 4 (Option.some Jvm.ClassFile.FieldType.int) (kS) [rv g a0, rv g a1] (sT a0 a1) rvI) (a0 a1 : Option Nat) : XMet l g yX14_worked cX14_worked 2 (Option.some Jvm.ClassFile.FieldType.int) (kS + 1) [rv g a0, rv g a1] (x14_worked_s sN sT a0 a1) rvI := by
  refine gx_start (by decide +kernel) (by have e := lg_sl_len [rv g a0, rv g a1]; simp only [List.map_cons, List.map_nil, List.sum_cons, List.sum_nil, rv_cat, cat_int, cat_long] at e; omega) (fun X Q σ0 hl C E hQ hR hr hnm => ?_)
  subst hl
  rw [show lv_args 0 [rv g a0, rv g a1] = [(0, rv g a0), (1, rv g a1)] from by simp [lv_args, rv_cat, cat_int, cat_long]]
  show GJ X 2 (xWo g σ0 (cx_s X).heap) Q (x14_worked_s sN sT a0 a1) 0 [(0, rv g a0), (1, rv g a1)] []
  unfold x14_worked_s
  refine gx_aload_n C dX14_worked_0 0 rfl ?_
  refine gx_gR (O := "BorrowedLives$Not") (nm := "part") (ds := "LBorrowedLives$Expression;") (fin := true) C E dX14_worked_1 (by decide +kernel) (Or.inl q1086) (fun _ h => h) (fun v1 => ?_)
  refine gx_aload_n C dX14_worked_4 1 rfl ?_
  refine gx_shI (rest := []) (fun kk => ?_) (fun v5 => ?_)
  · refine gx_dcons (gx_callAI (x := ⟨"BorrowedLives$Expression", "worked", "([I)I"⟩) (owner := "BorrowedLives$Expression") (t0 := 10) (As := [rv g a1]) (rest := []) C E rfl dX14_worked_5 (mx12_worked (cx_l X) g v1 a1) q1356 q1346 q1350 q1351 q154 q1352 q1345 hy9_X11_worked hR (by omega) (by decide) rfl rfl (Nat.zero_le _) kk) ?_
    refine gx_dcons (gx_callAI (x := ⟨"BorrowedLives$Expression", "worked", "([I)I"⟩) (owner := "BorrowedLives$Expression") (t0 := 11) (As := [rv g a1]) (rest := []) C E rfl dX14_worked_5 (mx13_worked (cx_l X) g v1 a1) q1356 q1346 q1347 q1348 q155 q1349 q1345 hy9_X11_worked hR (by omega) (by decide) rfl rfl (Nat.zero_le _) kk) ?_
    refine gx_dcons (gx_callAI (x := ⟨"BorrowedLives$Expression", "worked", "([I)I"⟩) (owner := "BorrowedLives$Expression") (t0 := 12) (As := [rv g a1]) (rest := []) C E rfl dX14_worked_5 (hN v1 a1) q1356 q1346 q1353 q1354 q156 q1355 q1345 hy9_X11_worked hR (by omega) (by decide) rfl rfl (Nat.zero_le _) kk) ?_
    refine gx_dcons (gx_callAI (x := ⟨"BorrowedLives$Expression", "worked", "([I)I"⟩) (owner := "BorrowedLives$Expression") (t0 := 13) (As := [rv g a1]) (rest := []) C E rfl dX14_worked_5 (hT v1 a1) q1356 q1346 q1360 q1357 q157 q1358 q1345 hy9_X11_worked hR (by omega) (by decide) rfl rfl (Nat.zero_le _) kk) ?_
    exact gx_dnil
  refine gj_dia (J := 16) (L := [(0, rv g a0), (1, rv g a1)]) (st := []) (fun v16 => ?_) (fun t hJ => ?_)
  · skip
    exact gx_iret C hQ hr dX14_worked_16
  · refine gj_if_ne (tgt := 15) C dX14_worked_8 (by decide) (fun h8 => ?_) (fun h8 => ?_)
    · refine gj_iconst C dX14_worked_15 ?_
      exact (by rw [if_neg h8] at hJ; exact hJ)
    · refine gj_iconst C dX14_worked_11 ?_
      refine gj_goto (tgt := 16) C dX14_worked_12 (by decide) ?_
      exact (by rw [if_pos h8] at hJ; exact hJ)
def x15_worked_s (sN : Option Nat → Option Nat → PT Hp Int) (sT : Option Nat → Option Nat → PT Hp Int) (a0 a1 : Option Nat) : PT Hp Int :=
  pbnd (xgR a0 13 1) fun v1 =>
  pbnd (xdisp v1 [(10, x12_worked v1 a1), (11, x13_worked v1 a1), (12, sN v1 a1), (13, sT v1 a1)]) fun v5 =>
  pbnd (xgR a0 13 2) fun v10 =>
  pbnd (xdisp v10 [(10, x12_worked v10 a1), (11, x13_worked v10 a1), (12, sN v10 a1), (13, sT v10 a1)]) fun v14 =>
  pbnd (xgI a0 13 0) fun v19 =>
  pite (w32 v19 = 38) (
    plet (if w32 v5 = 0 then 0 else if w32 v14 = 0 then 0 else 1) fun v127 =>
    pret v127) (
    pite (w32 v19 = 42) (
      pret (v5 * v14)) (
      pite (w32 v19 = 43) (
        pret (v5 + v14)) (
        pite (w32 v19 = 45) (
          pret (v5 - v14)) (
          pite (w32 v19 = 60) (
            plet (if w32 v5 < w32 v14 then 1 else 0) fun v102 =>
            pret v102) (
            pite (w32 v19 = 61) (
              plet (if w32 v5 = w32 v14 then 1 else 0) fun v113 =>
              pret v113) (
              plet (if w32 v5 = 0 then if w32 v14 = 0 then 0 else 1 else 1) fun v141 =>
              pret v141))))))
set_option maxHeartbeats 4000000 in
set_option maxRecDepth 100000 in
theorem mx15_worked_s (l : Launch) (g : XG) {kS : Nat} (hkS : 1 ≤ kS) {sN sT : Option Nat → Option Nat → PT Hp Int} (hN : ∀ (a0 a1 : Option Nat), XMet l g yX14_worked cX14_worked 2 (Option.some Jvm.ClassFile.FieldType.int) (kS) [rv g a0, rv g a1] (sN a0 a1) rvI) (hT : ∀ (a0 a1 : Option Nat), XMet l g yX15_worked cX15_worked 4 (Option.some Jvm.ClassFile.FieldType.int) (kS) [rv g a0, rv g a1] (sT a0 a1) rvI) (a0 a1 : Option Nat) : XMet l g yX15_worked cX15_worked 4 (Option.some Jvm.ClassFile.FieldType.int) (kS + 1) [rv g a0, rv g a1] (x15_worked_s sN sT a0 a1) rvI := by
  refine gx_start (by decide +kernel) (by have e := lg_sl_len [rv g a0, rv g a1]; simp only [List.map_cons, List.map_nil, List.sum_cons, List.sum_nil, rv_cat, cat_int, cat_long] at e; omega) (fun X Q σ0 hl C E hQ hR hr hnm => ?_)
  subst hl
  rw [show lv_args 0 [rv g a0, rv g a1] = [(0, rv g a0), (1, rv g a1)] from by simp [lv_args, rv_cat, cat_int, cat_long]]
  show GJ X 4 (xWo g σ0 (cx_s X).heap) Q (x15_worked_s sN sT a0 a1) 0 [(0, rv g a0), (1, rv g a1)] []
  unfold x15_worked_s
  refine gx_aload_n C dX15_worked_0 0 rfl ?_
  refine gx_gR (O := "BorrowedLives$Two") (nm := "a") (ds := "LBorrowedLives$Expression;") (fin := true) C E dX15_worked_1 (by decide +kernel) (Or.inl q1101) (fun _ h => h) (fun v1 => ?_)
  refine gx_aload_n C dX15_worked_4 1 rfl ?_
  refine gx_shI (rest := []) (fun kk => ?_) (fun v5 => ?_)
  · refine gx_dcons (gx_callAI (x := ⟨"BorrowedLives$Expression", "worked", "([I)I"⟩) (owner := "BorrowedLives$Expression") (t0 := 10) (As := [rv g a1]) (rest := []) C E rfl dX15_worked_5 (mx12_worked (cx_l X) g v1 a1) q1359 q1346 q1350 q1351 q154 q1352 q1345 hy9_X11_worked hR (by omega) (by decide) rfl rfl (Nat.zero_le _) kk) ?_
    refine gx_dcons (gx_callAI (x := ⟨"BorrowedLives$Expression", "worked", "([I)I"⟩) (owner := "BorrowedLives$Expression") (t0 := 11) (As := [rv g a1]) (rest := []) C E rfl dX15_worked_5 (mx13_worked (cx_l X) g v1 a1) q1359 q1346 q1347 q1348 q155 q1349 q1345 hy9_X11_worked hR (by omega) (by decide) rfl rfl (Nat.zero_le _) kk) ?_
    refine gx_dcons (gx_callAI (x := ⟨"BorrowedLives$Expression", "worked", "([I)I"⟩) (owner := "BorrowedLives$Expression") (t0 := 12) (As := [rv g a1]) (rest := []) C E rfl dX15_worked_5 (hN v1 a1) q1359 q1346 q1353 q1354 q156 q1355 q1345 hy9_X11_worked hR (by omega) (by decide) rfl rfl (Nat.zero_le _) kk) ?_
    refine gx_dcons (gx_callAI (x := ⟨"BorrowedLives$Expression", "worked", "([I)I"⟩) (owner := "BorrowedLives$Expression") (t0 := 13) (As := [rv g a1]) (rest := []) C E rfl dX15_worked_5 (hT v1 a1) q1359 q1346 q1360 q1357 q157 q1358 q1345 hy9_X11_worked hR (by omega) (by decide) rfl rfl (Nat.zero_le _) kk) ?_
    exact gx_dnil
  refine gj_istore_n (L' := [(2, .int (iI v5)), (0, rv g a0), (1, rv g a1)]) C dX15_worked_8 (by decide) (by simp [List.filter, rv_cat, cat_int, cat_long, fin4_3]) ?_
  refine gx_aload_n C dX15_worked_9 1 rfl ?_
  refine gx_gR (O := "BorrowedLives$Two") (nm := "b") (ds := "LBorrowedLives$Expression;") (fin := true) C E dX15_worked_10 (by decide +kernel) (Or.inl q1102) (fun _ h => h) (fun v10 => ?_)
  refine gx_aload_n C dX15_worked_13 2 rfl ?_
  refine gx_shI (rest := []) (fun kk => ?_) (fun v14 => ?_)
  · refine gx_dcons (gx_callAI (x := ⟨"BorrowedLives$Expression", "worked", "([I)I"⟩) (owner := "BorrowedLives$Expression") (t0 := 10) (As := [rv g a1]) (rest := []) C E rfl dX15_worked_14 (mx12_worked (cx_l X) g v10 a1) q1359 q1346 q1350 q1351 q154 q1352 q1345 hy9_X11_worked hR (by omega) (by decide) rfl rfl (Nat.zero_le _) kk) ?_
    refine gx_dcons (gx_callAI (x := ⟨"BorrowedLives$Expression", "worked", "([I)I"⟩) (owner := "BorrowedLives$Expression") (t0 := 11) (As := [rv g a1]) (rest := []) C E rfl dX15_worked_14 (mx13_worked (cx_l X) g v10 a1) q1359 q1346 q1347 q1348 q155 q1349 q1345 hy9_X11_worked hR (by omega) (by decide) rfl rfl (Nat.zero_le _) kk) ?_
    refine gx_dcons (gx_callAI (x := ⟨"BorrowedLives$Expression", "worked", "([I)I"⟩) (owner := "BorrowedLives$Expression") (t0 := 12) (As := [rv g a1]) (rest := []) C E rfl dX15_worked_14 (hN v10 a1) q1359 q1346 q1353 q1354 q156 q1355 q1345 hy9_X11_worked hR (by omega) (by decide) rfl rfl (Nat.zero_le _) kk) ?_
    refine gx_dcons (gx_callAI (x := ⟨"BorrowedLives$Expression", "worked", "([I)I"⟩) (owner := "BorrowedLives$Expression") (t0 := 13) (As := [rv g a1]) (rest := []) C E rfl dX15_worked_14 (hT v10 a1) q1359 q1346 q1360 q1357 q157 q1358 q1345 hy9_X11_worked hR (by omega) (by decide) rfl rfl (Nat.zero_le _) kk) ?_
    exact gx_dnil
  refine gj_istore_n (L' := [(3, _), (2, _), (0, _), (1, _)]) C dX15_worked_17 (by decide) rfl ?_
  refine gx_aload_n C dX15_worked_18 2 rfl ?_
  refine gx_gI (O := "BorrowedLives$Two") (nm := "way") (ds := "C") (fin := true) C E dX15_worked_19 (by decide +kernel) (Or.inl q1100) (fun _ h => h) (fun v19 => ?_)
  by_cases h22_0 : w32 v19 = 38
  · refine gj_pos h22_0 ?_
    refine gj_lookup (off := 92) (tgt := 114) C dX15_worked_22 (by decide) (by rw [h22_0]; decide) (by decide) ?_
    refine gj_iload_n C dX15_worked_114 1 rfl ?_
    refine gj_dia (J := 127) (L := [(3, .int (iI v14)), (2, .int (iI v5)), (0, rv g a0), (1, rv g a1)]) (st := []) (fun v127 => ?_) (fun t hJ => ?_)
    · skip
      exact gx_iret C hQ hr dX15_worked_127
    · refine gj_if_eq (tgt := 126) C dX15_worked_115 (by decide) (fun h115 => ?_) (fun h115 => ?_)
      · refine gj_iconst C dX15_worked_126 ?_
        exact (by rw [if_pos h115] at hJ; exact hJ)
      · refine gj_iload_n C dX15_worked_118 0 rfl ?_
        refine gj_if_eq (tgt := 126) C dX15_worked_119 (by decide) (fun h119 => ?_) (fun h119 => ?_)
        · refine gj_iconst C dX15_worked_126 ?_
          exact (by rw [if_neg h115, if_pos h119] at hJ; exact hJ)
        · refine gj_iconst C dX15_worked_122 ?_
          refine gj_goto (tgt := 127) C dX15_worked_123 (by decide) ?_
          exact (by rw [if_neg h115, if_neg h119] at hJ; exact hJ)
  · refine gj_neg h22_0 ?_
    by_cases h22_1 : w32 v19 = 42
    · refine gj_pos h22_1 ?_
      refine gj_lookup (off := 66) (tgt := 88) C dX15_worked_22 (by decide) (by rw [h22_1]; decide) (by decide) ?_
      refine gj_iload_n C dX15_worked_88 1 rfl ?_
      refine gj_iload_n C dX15_worked_89 0 rfl ?_
      refine gj_imul C dX15_worked_90 ?_
      exact gx_iret C hQ hr dX15_worked_91
    · refine gj_neg h22_1 ?_
      by_cases h22_2 : w32 v19 = 43
      · refine gj_pos h22_2 ?_
        refine gj_lookup (off := 58) (tgt := 80) C dX15_worked_22 (by decide) (by rw [h22_2]; decide) (by decide) ?_
        refine gj_iload_n C dX15_worked_80 1 rfl ?_
        refine gj_iload_n C dX15_worked_81 0 rfl ?_
        refine gj_iadd C dX15_worked_82 ?_
        exact gx_iret C hQ hr dX15_worked_83
      · refine gj_neg h22_2 ?_
        by_cases h22_3 : w32 v19 = 45
        · refine gj_pos h22_3 ?_
          refine gj_lookup (off := 62) (tgt := 84) C dX15_worked_22 (by decide) (by rw [h22_3]; decide) (by decide) ?_
          refine gj_iload_n C dX15_worked_84 1 rfl ?_
          refine gj_iload_n C dX15_worked_85 0 rfl ?_
          refine gj_isub C dX15_worked_86 ?_
          exact gx_iret C hQ hr dX15_worked_87
        · refine gj_neg h22_3 ?_
          by_cases h22_4 : w32 v19 = 60
          · refine gj_pos h22_4 ?_
            refine gj_lookup (off := 70) (tgt := 92) C dX15_worked_22 (by decide) (by rw [h22_4]; decide) (by decide) ?_
            refine gj_iload_n C dX15_worked_92 1 rfl ?_
            refine gj_iload_n C dX15_worked_93 0 rfl ?_
            refine gj_dia (J := 102) (L := [(3, .int (iI v14)), (2, .int (iI v5)), (0, rv g a0), (1, rv g a1)]) (st := []) (fun v102 => ?_) (fun t hJ => ?_)
            · skip
              exact gx_iret C hQ hr dX15_worked_102
            · refine gj_icmp_ge (tgt := 101) C dX15_worked_94 (by decide) rfl rfl (fun h94 => ?_) (fun h94 => ?_)
              · refine gj_iconst C dX15_worked_101 ?_
                exact (by rw [if_neg h94] at hJ; exact hJ)
              · refine gj_iconst C dX15_worked_97 ?_
                refine gj_goto (tgt := 102) C dX15_worked_98 (by decide) ?_
                exact (by rw [if_pos h94] at hJ; exact hJ)
          · refine gj_neg h22_4 ?_
            by_cases h22_5 : w32 v19 = 61
            · refine gj_pos h22_5 ?_
              refine gj_lookup (off := 81) (tgt := 103) C dX15_worked_22 (by decide) (by rw [h22_5]; decide) (by decide) ?_
              refine gj_iload_n C dX15_worked_103 1 rfl ?_
              refine gj_iload_n C dX15_worked_104 0 rfl ?_
              refine gj_dia (J := 113) (L := [(3, .int (iI v14)), (2, .int (iI v5)), (0, rv g a0), (1, rv g a1)]) (st := []) (fun v113 => ?_) (fun t hJ => ?_)
              · skip
                exact gx_iret C hQ hr dX15_worked_113
              · refine gj_icmp_ne (tgt := 112) C dX15_worked_105 (by decide) rfl rfl (fun h105 => ?_) (fun h105 => ?_)
                · refine gj_iconst C dX15_worked_112 ?_
                  exact (by rw [if_neg h105] at hJ; exact hJ)
                · refine gj_iconst C dX15_worked_108 ?_
                  refine gj_goto (tgt := 113) C dX15_worked_109 (by decide) ?_
                  exact (by rw [if_pos h105] at hJ; exact hJ)
            · refine gj_neg h22_5 ?_
              refine gj_lookup (off := 106) (tgt := 128) C dX15_worked_22 (by decide) (by simp only [Op.lookupswitch.offset_cons, Op.lookupswitch.offset_nil, if_neg (Ne.symm h22_0), if_neg (Ne.symm h22_1), if_neg (Ne.symm h22_2), if_neg (Ne.symm h22_3), if_neg (Ne.symm h22_4), if_neg (Ne.symm h22_5)]) (by decide) ?_
              refine gj_iload_n C dX15_worked_128 1 rfl ?_
              refine gj_dia (J := 141) (L := [(3, .int (iI v14)), (2, .int (iI v5)), (0, rv g a0), (1, rv g a1)]) (st := []) (fun v141 => ?_) (fun t hJ => ?_)
              · skip
                exact gx_iret C hQ hr dX15_worked_141
              · refine gj_if_ne (tgt := 136) C dX15_worked_129 (by decide) (fun h129 => ?_) (fun h129 => ?_)
                · refine gj_iconst C dX15_worked_136 ?_
                  refine gj_goto (tgt := 141) C dX15_worked_137 (by decide) ?_
                  exact (by rw [if_neg h129] at hJ; exact hJ)
                · refine gj_iload_n C dX15_worked_132 0 rfl ?_
                  refine gj_if_eq (tgt := 140) C dX15_worked_133 (by decide) (fun h133 => ?_) (fun h133 => ?_)
                  · refine gj_iconst C dX15_worked_140 ?_
                    exact (by rw [if_pos h129, if_pos h133] at hJ; exact hJ)
                  · refine gj_iconst C dX15_worked_136 ?_
                    refine gj_goto (tgt := 141) C dX15_worked_137 (by decide) ?_
                    exact (by rw [if_pos h129, if_neg h133] at hJ; exact hJ)
def xwk : Nat → (Option Nat → Option Nat → PT Hp Int) × (Option Nat → Option Nat → PT Hp Int)
  | 0 => (fun _ _ => pfail, fun _ _ => pfail)
  | n + 1 => (x14_worked_s (xwk n).1 (xwk n).2, x15_worked_s (xwk n).1 (xwk n).2)
theorem mxwk (l : Launch) (g : XG) : ∀ (n : Nat), (∀ (a0 a1 : Option Nat), XMet l g yX14_worked cX14_worked 2 (Option.some Jvm.ClassFile.FieldType.int) (1 + n) [rv g a0, rv g a1] ((xwk n).1 a0 a1) rvI) ∧ (∀ (a0 a1 : Option Nat), XMet l g yX15_worked cX15_worked 4 (Option.some Jvm.ClassFile.FieldType.int) (1 + n) [rv g a0, rv g a1] ((xwk n).2 a0 a1) rvI) := by
  intro n
  induction n with
  | zero => exact ⟨fun a0 a1 Q σ h => h.elim, fun a0 a1 Q σ h => h.elim⟩
  | succ n ih => exact ⟨fun a0 a1 => mx14_worked_s l g (by omega) ih.1 ih.2 a0 a1, fun a0 a1 => mx15_worked_s l g (by omega) ih.1 ih.2 a0 a1⟩
def x1_between (a0 a1 a2 : Int) : PT Hp Int :=
  pret (zmax a1 (zmin a2 a0))
set_option maxHeartbeats 4000000 in
set_option maxRecDepth 100000 in
theorem mx1_between (l : Launch) (g : XG) (a0 a1 a2 : Int) : XMet l g yX1_between cX1_between 3 (Option.some Jvm.ClassFile.FieldType.int) (1) [.int (iI a0), .int (iI a1), .int (iI a2)] (x1_between a0 a1 a2) rvI := by
  refine gx_start (by decide +kernel) (by have e := lg_sl_len [.int (iI a0), .int (iI a1), .int (iI a2)]; simp only [List.map_cons, List.map_nil, List.sum_cons, List.sum_nil, rv_cat, cat_int, cat_long] at e; omega) (fun X Q σ0 hl C E hQ hR hr hnm => ?_)
  subst hl
  show GJ X 3 (xWo g σ0 (cx_s X).heap) Q (x1_between a0 a1 a2) 0 [(0, .int (iI a0)), (1, .int (iI a1)), (2, .int (iI a2))] []
  unfold x1_between
  refine gj_iload_n C dX1_between_0 1 rfl ?_
  refine gj_iload_n C dX1_between_1 2 rfl ?_
  refine gj_iload_n C dX1_between_2 0 rfl ?_
  refine gx_min C E dX1_between_3 q1361 q517 q137 q518 hR (Nat.le_of_ble_eq_true rfl) (Nat.le_of_ble_eq_true rfl) ?_
  refine gx_max C E dX1_between_6 q1343 q514 q137 q515 hR (Nat.le_of_ble_eq_true rfl) (Nat.zero_le _) ?_
  exact gx_iret C hQ hr dX1_between_9
def x7_spends (a0 : Option Nat) (a1 : Int) : PT Hp Int :=
  pret a1
set_option maxHeartbeats 4000000 in
set_option maxRecDepth 100000 in
theorem mx7_spends (l : Launch) (g : XG) (a0 : Option Nat) (a1 : Int) : XMet l g yX7_spends cX7_spends 2 (Option.some Jvm.ClassFile.FieldType.int) (0) [rv g a0, .int (iI a1)] (x7_spends a0 a1) rvI := by
  refine gx_start (by decide +kernel) (by have e := lg_sl_len [rv g a0, .int (iI a1)]; simp only [List.map_cons, List.map_nil, List.sum_cons, List.sum_nil, rv_cat, cat_int, cat_long] at e; omega) (fun X Q σ0 hl C E hQ hR hr hnm => ?_)
  subst hl
  rw [show lv_args 0 [rv g a0, .int (iI a1)] = [(0, rv g a0), (1, .int (iI a1))] from by simp [lv_args, rv_cat, cat_int, cat_long]]
  show GJ X 2 (xWo g σ0 (cx_s X).heap) Q (x7_spends a0 a1) 0 [(0, rv g a0), (1, .int (iI a1))] []
  unfold x7_spends
  refine gj_iload_n C dX7_spends_0 1 rfl ?_
  exact gx_iret C hQ hr dX7_spends_1
def x8_spends (a0 : Option Nat) (a1 : Int) : PT Hp Int :=
  pbnd (pnz 2) fun _ =>
  pret (zdiv a1 2)
set_option maxHeartbeats 4000000 in
set_option maxRecDepth 100000 in
theorem mx8_spends (l : Launch) (g : XG) (a0 : Option Nat) (a1 : Int) : XMet l g yX8_spends cX8_spends 2 (Option.some Jvm.ClassFile.FieldType.int) (0) [rv g a0, .int (iI a1)] (x8_spends a0 a1) rvI := by
  refine gx_start (by decide +kernel) (by have e := lg_sl_len [rv g a0, .int (iI a1)]; simp only [List.map_cons, List.map_nil, List.sum_cons, List.sum_nil, rv_cat, cat_int, cat_long] at e; omega) (fun X Q σ0 hl C E hQ hR hr hnm => ?_)
  subst hl
  rw [show lv_args 0 [rv g a0, .int (iI a1)] = [(0, rv g a0), (1, .int (iI a1))] from by simp [lv_args, rv_cat, cat_int, cat_long]]
  show GJ X 2 (xWo g σ0 (cx_s X).heap) Q (x8_spends a0 a1) 0 [(0, rv g a0), (1, .int (iI a1))] []
  unfold x8_spends
  refine gj_iload_n C dX8_spends_0 1 rfl ?_
  refine gj_iconst C dX8_spends_1 ?_
  refine gj_nz (fun hz2 => ?_)
  refine gj_idiv C dX8_spends_2 hz2 ?_
  exact gx_iret C hQ hr dX8_spends_3
def x4_gets (a0 : Option Nat) (a1 a2 : Int) : PT Hp Unit :=
  pbnd (xgR a0 4 0) fun v1 =>
  pbnd (xgR a0 4 0) fun v9 =>
  pbnd (xld v9 40 a1) fun v13 =>
  pbnd (xst v1 40 a1 (zmin 9999 ((v13 + a2)))) fun _ =>
  pret ()
set_option maxHeartbeats 4000000 in
set_option maxRecDepth 100000 in
theorem mx4_gets (l : Launch) (g : XG) (a0 : Option Nat) (a1 a2 : Int) : XMet l g yX4_gets cX4_gets 3 (Option.none : Option Jvm.ClassFile.FieldType) (1) [rv g a0, .int (iI a1), .int (iI a2)] (x4_gets a0 a1 a2) rvV := by
  refine gx_start (by decide +kernel) (by have e := lg_sl_len [rv g a0, .int (iI a1), .int (iI a2)]; simp only [List.map_cons, List.map_nil, List.sum_cons, List.sum_nil, rv_cat, cat_int, cat_long] at e; omega) (fun X Q σ0 hl C E hQ hR hr hnm => ?_)
  subst hl
  rw [show lv_args 0 [rv g a0, .int (iI a1), .int (iI a2)] = [(0, rv g a0), (1, .int (iI a1)), (2, .int (iI a2))] from by simp [lv_args, rv_cat, cat_int, cat_long]]
  show GJ X 3 (xWo g σ0 (cx_s X).heap) Q (x4_gets a0 a1 a2) 0 [(0, rv g a0), (1, .int (iI a1)), (2, .int (iI a2))] []
  unfold x4_gets
  refine gx_aload_n C dX4_gets_0 0 rfl ?_
  refine gx_gR (O := "BorrowedLives$State") (nm := "purse") (ds := "[I") (fin := true) C E dX4_gets_1 (by decide +kernel) (Or.inl q290) (fun _ h => h) (fun v1 => ?_)
  refine gj_iload_n C dX4_gets_4 1 rfl ?_
  refine gj_sipush C dX4_gets_5 rfl ?_
  refine gx_aload_n C dX4_gets_8 0 rfl ?_
  refine gx_gR (O := "BorrowedLives$State") (nm := "purse") (ds := "[I") (fin := true) C E dX4_gets_9 (by decide +kernel) (Or.inl q290) (fun _ h => h) (fun v9 => ?_)
  refine gj_iload_n C dX4_gets_12 1 rfl ?_
  refine gx_iald C E dX4_gets_13 (fun v13 => ?_)
  refine gj_iload_n C dX4_gets_14 2 rfl ?_
  refine gj_iadd C dX4_gets_15 ?_
  refine gx_min C E dX4_gets_16 q1379 q517 q137 q518 hR (Nat.le_of_ble_eq_true rfl) (by simp only [List.map_cons, List.map_nil, List.sum_cons, List.sum_nil, rv_cat, cat_int, cat_long]; decide) ?_
  refine gx_iast C E dX4_gets_19 ?_
  exact gx_vret C hQ hr dX4_gets_20
def x10_paysDebts (a0 : Option Nat) : PT Hp Int :=
  pbnd (pzo 1) fun _ => pret 1
set_option maxHeartbeats 4000000 in
set_option maxRecDepth 100000 in
theorem mx10_paysDebts (l : Launch) (g : XG) (a0 : Option Nat) : XMet l g yX10_paysDebts cX10_paysDebts 1 (Option.some Jvm.ClassFile.FieldType.boolean) (0) [rv g a0] (x10_paysDebts a0) rvI := by
  refine gx_start (by decide +kernel) (by have e := lg_sl_len [rv g a0]; simp only [List.map_cons, List.map_nil, List.sum_cons, List.sum_nil, rv_cat, cat_int, cat_long] at e; omega) (fun X Q σ0 hl C E hQ hR hr hnm => ?_)
  subst hl
  rw [show lv_args 0 [rv g a0] = [(0, rv g a0)] from by simp [lv_args, rv_cat, cat_int, cat_long]]
  show GJ X 1 (xWo g σ0 (cx_s X).heap) Q (x10_paysDebts a0) 0 [(0, rv g a0)] []
  unfold x10_paysDebts
  refine gj_iconst C dX10_paysDebts_0 ?_
  exact gx_zret C hQ hr dX10_paysDebts_1
def x7_paysDebts (a0 : Option Nat) : PT Hp Int :=
  pbnd (pzo 0) fun _ => pret 0
set_option maxHeartbeats 4000000 in
set_option maxRecDepth 100000 in
theorem mx7_paysDebts (l : Launch) (g : XG) (a0 : Option Nat) : XMet l g yX7_paysDebts cX7_paysDebts 1 (Option.some Jvm.ClassFile.FieldType.boolean) (0) [rv g a0] (x7_paysDebts a0) rvI := by
  refine gx_start (by decide +kernel) (by have e := lg_sl_len [rv g a0]; simp only [List.map_cons, List.map_nil, List.sum_cons, List.sum_nil, rv_cat, cat_int, cat_long] at e; omega) (fun X Q σ0 hl C E hQ hR hr hnm => ?_)
  subst hl
  rw [show lv_args 0 [rv g a0] = [(0, rv g a0)] from by simp [lv_args, rv_cat, cat_int, cat_long]]
  show GJ X 1 (xWo g σ0 (cx_s X).heap) Q (x7_paysDebts a0) 0 [(0, rv g a0)] []
  unfold x7_paysDebts
  refine gj_iconst C dX7_paysDebts_0 ?_
  exact gx_zret C hQ hr dX7_paysDebts_1
def x1_poorest_j43 (a0 a1 : Option Nat) (a2 a3 a4 : Int) (bk5 : (Int × Int) → PT Hp Int) : PT Hp Int :=
  bk5 (a3, a4 + 1)
def x1_poorest_j40 (a0 a1 : Option Nat) (a2 a4 : Int) (bk5 : (Int × Int) → PT Hp Int) : PT Hp Int :=
  x1_poorest_j43 a0 a1 a2 a4 a4 bk5
def x1_poorest_b5 (a0 a1 : Option Nat) (a2 : Int) (a3 a4 : Int) (bk5 : (Int × Int) → PT Hp Int) : PT Hp Int :=
  pbnd (xrecv a0 1) fun _ =>
  pbnd (x1_people a0) fun v8 =>
  pite (w32 a4 < w32 v8) (
    pite (w32 a4 = w32 a2) (
      x1_poorest_j43 a0 a1 a2 a3 a4 bk5) (
      pite (w32 a3 < 0) (
        x1_poorest_j40 a0 a1 a2 a4 bk5) (
        pbnd (xgR a1 4 0) fun v25 =>
        pbnd (xld v25 40 a4) fun v30 =>
        pbnd (xgR a1 4 0) fun v32 =>
        pbnd (xld v32 40 a3) fun v36 =>
        pite (w32 v30 < w32 v36) (
          x1_poorest_j40 a0 a1 a2 a4 bk5) (
          x1_poorest_j43 a0 a1 a2 a3 a4 bk5)))) (
    pret a3)
def x1_poorest_l5 (a0 a1 : Option Nat) (a2 a3 a4 : Int) : PT Hp Int :=
  ploop (fun (s : (Int × Int)) bk5 => x1_poorest_b5 a0 a1 a2 s.1 s.2 bk5) (a3, a4)
def x1_poorest (a0 a1 : Option Nat) (a2 : Int) : PT Hp Int :=
  x1_poorest_l5 a0 a1 a2 (-1) 0
set_option maxHeartbeats 4000000 in
set_option maxRecDepth 100000 in
theorem mx1_poorest (l : Launch) (g : XG) (a0 a1 : Option Nat) (a2 : Int) : XMet l g yX1_poorest cX1_poorest 5 (Option.some Jvm.ClassFile.FieldType.int) (2) [rv g a0, rv g a1, .int (iI a2)] (x1_poorest a0 a1 a2) rvI := by
  refine gx_start (by decide +kernel) (by have e := lg_sl_len [rv g a0, rv g a1, .int (iI a2)]; simp only [List.map_cons, List.map_nil, List.sum_cons, List.sum_nil, rv_cat, cat_int, cat_long] at e; omega) (fun X Q σ0 hl C E hQ hR hr hnm => ?_)
  subst hl
  rw [show lv_args 0 [rv g a0, rv g a1, .int (iI a2)] = [(0, rv g a0), (1, rv g a1), (2, .int (iI a2))] from by simp [lv_args, rv_cat, cat_int, cat_long]]
  show GJ X 5 (xWo g σ0 (cx_s X).heap) Q (x1_poorest a0 a1 a2) 0 [(0, rv g a0), (1, rv g a1), (2, .int (iI a2))] []
  have J5 : ∀ (a0 a1 : Option Nat) (a2 a3 a4 : Int), GJ X 5 (xWo g σ0 (cx_s X).heap) Q (x1_poorest_l5 a0 a1 a2 a3 a4) 5 [(0, rv g a0), (1, rv g a1), (2, .int (iI a2)), (3, .int (iI a3)), (4, .int (iI a4))] [] := by
    intro a0 a1 a2 a3 a4
    unfold x1_poorest_l5
    refine gj_loop (fun (s : (Int × Int)) => [(0, rv g a0), (1, rv g a1), (2, .int (iI a2)), (3, .int (iI (s.1))), (4, .int (iI (s.2)))]) (a3, a4) (fun bk5 hb5 s => ?_)
    obtain ⟨a3, a4⟩ := s
    show GJ X 5 (xWo g σ0 (cx_s X).heap) Q (x1_poorest_b5 a0 a1 a2 a3 a4 bk5) 5 [(0, rv g a0), (1, rv g a1), (2, .int (iI a2)), (3, .int (iI a3)), (4, .int (iI a4))] []
    have J43 : ∀ (a3 a4 : Int), GJ X 5 (xWo g σ0 (cx_s X).heap) Q (x1_poorest_j43 a0 a1 a2 a3 a4 bk5) 43 [(0, rv g a0), (1, rv g a1), (2, .int (iI a2)), (3, .int (iI a3)), (4, .int (iI a4))] [] := by
      intro a3 a4
      unfold x1_poorest_j43
      refine gj_iinc (L' := [(4, _), (0, _), (1, _), (2, _), (3, _)]) C dX1_poorest_43 4 rfl (by decide) rfl ?_
      refine gj_goto (tgt := 5) C dX1_poorest_46 (by decide) ?_
      exact gj_to [1, 2, 3, 4, 0] (hb5 (a3, a4 + 1)) rfl
    have J40 : ∀ (a4 : Int), GJ X 5 (xWo g σ0 (cx_s X).heap) Q (x1_poorest_j40 a0 a1 a2 a4 bk5) 40 [(0, rv g a0), (1, rv g a1), (2, .int (iI a2)), (4, .int (iI a4))] [] := by
      intro a4
      unfold x1_poorest_j40
      refine gj_iload C dX1_poorest_40 3 rfl ?_
      refine gj_istore_n (L' := [(3, _), (0, _), (1, _), (2, _), (4, _)]) C dX1_poorest_42 (by decide) rfl ?_
      exact gj_to [1, 2, 3, 0, 4] (J43 a4 a4) rfl
    unfold x1_poorest_b5
    refine gj_iload C dX1_poorest_5 4 rfl ?_
    refine gx_aload_n C dX1_poorest_7 0 rfl ?_
    refine gx_callVI (t0 := 1) (As := []) (rest := [.int (iI a4)]) C E rfl dX1_poorest_8 (mx1_people (cx_l X) g a0) (lw_V q1192 q1194 qs29 q125 q1195) hyx_X1_people rfl hR (Nat.le_of_ble_eq_true rfl) (by decide) rfl rfl (Nat.le_of_ble_eq_true rfl) (fun v8 => ?_)
    refine gj_icmp_ge (tgt := 49) C dX1_poorest_11 (by decide) rfl rfl (fun h11 => gj_neg h11 ?_) (fun h11 => gj_pos h11 ?_)
    · refine gj_iload_n C dX1_poorest_49 3 rfl ?_
      exact gx_iret C hQ hr dX1_poorest_50
    · refine gj_iload C dX1_poorest_14 4 rfl ?_
      refine gj_iload_n C dX1_poorest_16 2 rfl ?_
      refine gj_icmp_eq (tgt := 43) C dX1_poorest_17 (by decide) rfl rfl (fun h17 => gj_pos h17 ?_) (fun h17 => gj_neg h17 ?_)
      · exact gj_to [0, 1, 2, 3, 4] (J43 a3 a4) rfl
      · refine gj_iload_n C dX1_poorest_20 3 rfl ?_
        refine gj_if_lt (tgt := 40) C dX1_poorest_21 (by decide) (fun h21 => gj_pos h21 ?_) (fun h21 => gj_neg h21 ?_)
        · exact gj_to [0, 1, 2, 4] (J40 a4) rfl
        · refine gx_aload_n C dX1_poorest_24 1 rfl ?_
          refine gx_gR (O := "BorrowedLives$State") (nm := "purse") (ds := "[I") (fin := true) C E dX1_poorest_25 (by decide +kernel) (Or.inr ⟨_, q292⟩) (fun _ h => h) (fun v25 => ?_)
          refine gj_iload C dX1_poorest_28 4 rfl ?_
          refine gx_iald C E dX1_poorest_30 (fun v30 => ?_)
          refine gx_aload_n C dX1_poorest_31 1 rfl ?_
          refine gx_gR (O := "BorrowedLives$State") (nm := "purse") (ds := "[I") (fin := true) C E dX1_poorest_32 (by decide +kernel) (Or.inr ⟨_, q292⟩) (fun _ h => h) (fun v32 => ?_)
          refine gj_iload_n C dX1_poorest_35 3 rfl ?_
          refine gx_iald C E dX1_poorest_36 (fun v36 => ?_)
          refine gj_icmp_ge (tgt := 43) C dX1_poorest_37 (by decide) rfl rfl (fun h37 => gj_neg h37 ?_) (fun h37 => gj_pos h37 ?_)
          · exact gj_to [0, 1, 2, 3, 4] (J43 a3 a4) rfl
          · exact gj_to [0, 1, 2, 4] (J40 a4) rfl
  unfold x1_poorest
  refine gj_iconst C dX1_poorest_0 ?_
  refine gj_istore_n (L' := [(3, _), (0, _), (1, _), (2, _)]) C dX1_poorest_1 (by decide) rfl ?_
  refine gj_iconst C dX1_poorest_2 ?_
  refine gj_istore (L' := [(4, _), (3, _), (0, _), (1, _), (2, _)]) C dX1_poorest_3 (by decide) rfl ?_
  exact gj_to [2, 3, 4, 1, 0] (J5 a0 a1 a2 (-1) 0) rfl
def x1_spends_j139 (a0 a1 : Option Nat) (a2 a6 s0 : Int) : PT Hp Unit :=
  pbnd (xrecv a0 1) fun _ =>
  pbnd (x1_poorest a0 a1 a2) fun v144 =>
  pbnd (xgR a1 4 1) fun v150 =>
  pbnd (xld v150 40 a2) fun v155 =>
  pbnd (xst v150 40 a2 (v155 - s0)) fun _ =>
  pite (w32 v144 < 0) (
    pret ()) (
    pbnd (xrecv a1 4) fun _ =>
    pbnd (x4_gets a1 v144 (a6 - s0)) fun _ =>
    pret ())
def x1_spends_j63 (a0 a1 : Option Nat) (a2 a3 a4 : Int) (a5 : Option Nat) (s0 : Int) : PT Hp Unit :=
  pbnd (xgR a0 1 7) fun v72 =>
  pbnd (xld v72 40 0) fun v76 =>
  pbnd (x1_between s0 0 (zmin a3 v76)) fun v80 =>
  pbnd (xdisp a5 [(6, x7_spends a5 v80), (7, x8_spends a5 v80), (8, x7_spends a5 v80), (9, x7_spends a5 v80)]) fun v83 =>
  pbnd (xgR a1 4 0) fun v89 =>
  pbnd (xld v89 40 a2) fun v94 =>
  pbnd (xst v89 40 a2 (v94 - v83)) fun _ =>
  pbnd (xdisp a5 [(6, x7_findsHidden a5), (7, x7_findsHidden a5), (8, x9_findsHidden a5), (9, x7_findsHidden a5)]) fun v101 =>
  pite (w32 v101 = 0) (
    pbnd (xdisp a5 [(6, x7_paysDebts a5), (7, x7_paysDebts a5), (8, x7_paysDebts a5), (9, x10_paysDebts a5)]) fun v118 =>
    pite (w32 v118 = 0) (
      x1_spends_j139 a0 a1 a2 v83 0) (
      pbnd (xgR a1 4 1) fun v127 =>
      pbnd (xld v127 40 a2) fun v131 =>
      x1_spends_j139 a0 a1 a2 v83 (zmin v83 v131))) (
    pbnd (xrecv a1 4) fun _ =>
    pbnd (x4_gets a1 a4 v83) fun _ =>
    pret ())
def x1_spends (a0 a1 : Option Nat) (a2 a3 : Int) : PT Hp Unit :=
  pbnd (xgR a1 4 6) fun v1 =>
  pbnd (xld v1 40 a2) fun v5 =>
  pbnd (xrecv a0 1) fun _ =>
  pbnd (x1_person_2 a0 v5) fun v11 =>
  pbnd (xdisp v11 [(6, x7_findsHidden v11), (7, x7_findsHidden v11), (8, x9_findsHidden v11), (9, x7_findsHidden v11)]) fun v23 =>
  pbnd (xrecv a0 1) fun _ =>
  pbnd (x1_lays a0 a1 a2 v5 v23) fun _ =>
  pbnd (xgR a0 1 2) fun v30 =>
  pbnd (xgR v30 3 3) fun v33 =>
  pite (v33 = none) (
    pbnd (xgIs v11 [6, 7, 8, 9] 1) fun v41 =>
    x1_spends_j63 a0 a1 a2 a3 v5 v11 (v41 * 2)) (
    pbnd (xgR a0 1 2) fun v50 =>
    pbnd (xgR v50 3 3) fun v53 =>
    pbnd (xgR a0 1 7) fun v57 =>
    pbnd (xdisp v53 [(10, x12_worked v53 v57), (11, x13_worked v53 v57), (12, (xwk 700).1 v53 v57), (13, (xwk 700).2 v53 v57)]) fun v60 =>
    x1_spends_j63 a0 a1 a2 a3 v5 v11 v60)
set_option maxHeartbeats 4000000 in
set_option maxRecDepth 100000 in
theorem mx1_spends (l : Launch) (g : XG) (a0 a1 : Option Nat) (a2 a3 : Int) : XMet l g yX1_spends cX1_spends 9 (Option.none : Option Jvm.ClassFile.FieldType) (702) [rv g a0, rv g a1, .int (iI a2), .int (iI a3)] (x1_spends a0 a1 a2 a3) rvV := by
  refine gx_start (by decide +kernel) (by have e := lg_sl_len [rv g a0, rv g a1, .int (iI a2), .int (iI a3)]; simp only [List.map_cons, List.map_nil, List.sum_cons, List.sum_nil, rv_cat, cat_int, cat_long] at e; omega) (fun X Q σ0 hl C E hQ hR hr hnm => ?_)
  subst hl
  rw [show lv_args 0 [rv g a0, rv g a1, .int (iI a2), .int (iI a3)] = [(0, rv g a0), (1, rv g a1), (2, .int (iI a2)), (3, .int (iI a3))] from by simp [lv_args, rv_cat, cat_int, cat_long]]
  show GJ X 9 (xWo g σ0 (cx_s X).heap) Q (x1_spends a0 a1 a2 a3) 0 [(0, rv g a0), (1, rv g a1), (2, .int (iI a2)), (3, .int (iI a3))] []
  have J139 : ∀ (a0 a1 : Option Nat) (a2 a6 s0 : Int), GJ X 9 (xWo g σ0 (cx_s X).heap) Q (x1_spends_j139 a0 a1 a2 a6 s0) 139 [(0, rv g a0), (1, rv g a1), (2, .int (iI a2)), (6, .int (iI a6))] [.int (iI s0)] := by
    intro a0 a1 a2 a6 s0
    unfold x1_spends_j139
    refine gj_istore (L' := [(7, _), (0, _), (1, _), (2, _), (6, _)]) C dX1_spends_139 (by decide) rfl ?_
    refine gx_aload_n C dX1_spends_141 1 rfl ?_
    refine gx_aload_n C dX1_spends_142 2 rfl ?_
    refine gj_iload_n C dX1_spends_143 3 rfl ?_
    refine gx_callVI (t0 := 1) (As := [rv g a1, .int (iI a2)]) (rest := []) C E rfl dX1_spends_144 (mx1_poorest (cx_l X) g a0 a1 a2) (lw_V q1390 q1392 qs38 q125 q1393) hyx_X1_poorest rfl hR (Nat.le_of_ble_eq_true rfl) (by decide) rfl rfl (Nat.zero_le _) (fun v144 => ?_)
    refine gj_istore (L' := [(8, _), (7, _), (0, _), (1, _), (2, _), (6, _)]) C dX1_spends_147 (by decide) rfl ?_
    refine gx_aload_n C dX1_spends_149 3 rfl ?_
    refine gx_gR (O := "BorrowedLives$State") (nm := "debt") (ds := "[I") (fin := true) C E dX1_spends_150 (by decide +kernel) (Or.inr ⟨_, q294⟩) (fun _ h => h) (fun v150 => ?_)
    refine gj_iload_n C dX1_spends_153 4 rfl ?_
    refine gj_dup2 C dX1_spends_154 rfl (rv_cat _ _) ?_
    refine gx_iald C E dX1_spends_155 (fun v155 => ?_)
    refine gj_iload C dX1_spends_156 1 rfl ?_
    refine gj_isub C dX1_spends_158 ?_
    refine gx_iast C E dX1_spends_159 ?_
    refine gj_iload C dX1_spends_160 0 rfl ?_
    refine gj_if_lt (tgt := 176) C dX1_spends_162 (by decide) (fun h162 => gj_pos h162 ?_) (fun h162 => gj_neg h162 ?_)
    · exact gx_vret C hQ hr dX1_spends_176
    · refine gx_aload_n C dX1_spends_165 3 rfl ?_
      refine gj_iload C dX1_spends_166 0 rfl ?_
      refine gj_iload C dX1_spends_168 5 rfl ?_
      refine gj_iload C dX1_spends_170 1 rfl ?_
      refine gj_isub C dX1_spends_172 ?_
      refine gx_callVV (t0 := 4) (As := [.int (iI v144), .int (iI ((a6 - s0)))]) (rest := []) C E rfl dX1_spends_173 (mx4_gets (cx_l X) g a1 v144 (a6 - s0)) (lw_V q1375 q1376 q1377 q131 q1378) hyx_X4_gets rfl hR (Nat.le_of_ble_eq_true rfl) (by decide) rfl rfl (Nat.zero_le _) ?_
      exact gx_vret C hQ hr dX1_spends_176
  have J63 : ∀ (a0 a1 : Option Nat) (a2 a3 a4 : Int) (a5 : Option Nat) (s0 : Int), GJ X 9 (xWo g σ0 (cx_s X).heap) Q (x1_spends_j63 a0 a1 a2 a3 a4 a5 s0) 63 [(0, rv g a0), (1, rv g a1), (2, .int (iI a2)), (3, .int (iI a3)), (4, .int (iI a4)), (5, rv g a5)] [.int (iI s0)] := by
    intro a0 a1 a2 a3 a4 a5 s0
    unfold x1_spends_j63
    refine gj_istore (L' := [(6, .int (iI s0)), (0, rv g a0), (1, rv g a1), (2, .int (iI a2)), (3, .int (iI a3)), (4, .int (iI a4)), (5, rv g a5)]) C dX1_spends_63 (by decide) (by simp [List.filter, rv_cat, cat_int, cat_long, fin4_3]) ?_
    refine gx_aload C dX1_spends_65 6 rfl ?_
    refine gj_iload C dX1_spends_67 0 rfl ?_
    refine gj_iconst C dX1_spends_69 ?_
    refine gj_iload_n C dX1_spends_70 4 rfl ?_
    refine gx_aload_n C dX1_spends_71 1 rfl ?_
    refine gx_gR (O := "BorrowedLives") (nm := "facts") (ds := "[I") (fin := true) C E dX1_spends_72 (by decide +kernel) (Or.inl q387) (fun _ h => h) (fun v72 => ?_)
    refine gj_iconst C dX1_spends_75 ?_
    refine gx_iald C E dX1_spends_76 (fun v76 => ?_)
    refine gx_min C E dX1_spends_77 q1361 q517 q137 q518 hR (Nat.le_of_ble_eq_true rfl) (by simp only [List.map_cons, List.map_nil, List.sum_cons, List.sum_nil, rv_cat, cat_int, cat_long]; decide) ?_
    refine gx_callSI (As := [.int (iI s0), .int (iI 0), .int (iI (zmin a3 v76))]) (rest := [rv g a5]) C E dX1_spends_80 (mx1_between (cx_l X) g s0 0 (zmin a3 v76)) (lw_S q1362 q1363 q125 q1364) hyx_X1_between hR (Nat.le_of_ble_eq_true rfl) (by decide) rfl rfl (by simp only [List.map_cons, List.map_nil, List.sum_cons, List.sum_nil, rv_cat, cat_int, cat_long]; decide) (fun v80 => ?_)
    refine gx_shI (rest := []) (fun kk => ?_) (fun v83 => ?_)
    · refine gx_dcons (gx_callOI (x := ⟨"BorrowedLives$Person", "spends", "(I)I"⟩) (owner := "BorrowedLives$Person") (t0 := 6) (As := [.int (iI v80)]) (rest := []) C E rfl dX1_spends_83 (mx7_spends (cx_l X) g a5 v80) q1365 q1368 q1366 q1367 q1366 q149 q1374 q1374 hy9_X7_spends hR (Nat.le_of_ble_eq_true rfl) (by decide) rfl rfl (Nat.zero_le _) kk) ?_
      refine gx_dcons (gx_callOI (x := ⟨"BorrowedLives$Person", "spends", "(I)I"⟩) (owner := "BorrowedLives$Person") (t0 := 7) (As := [.int (iI v80)]) (rest := []) C E rfl dX1_spends_83 (mx8_spends (cx_l X) g a5 v80) q1365 q1368 q1366 q1370 q1371 q150 q1372 q1374 hy9_X7_spends hR (Nat.le_of_ble_eq_true rfl) (by decide) rfl rfl (Nat.zero_le _) kk) ?_
      refine gx_dcons (gx_callOI (x := ⟨"BorrowedLives$Person", "spends", "(I)I"⟩) (owner := "BorrowedLives$Person") (t0 := 8) (As := [.int (iI v80)]) (rest := []) C E rfl dX1_spends_83 (mx7_spends (cx_l X) g a5 v80) q1365 q1368 q1366 q1373 q1366 q149 q1374 q1374 hy9_X7_spends hR (Nat.le_of_ble_eq_true rfl) (by decide) rfl rfl (Nat.zero_le _) kk) ?_
      refine gx_dcons (gx_callOI (x := ⟨"BorrowedLives$Person", "spends", "(I)I"⟩) (owner := "BorrowedLives$Person") (t0 := 9) (As := [.int (iI v80)]) (rest := []) C E rfl dX1_spends_83 (mx7_spends (cx_l X) g a5 v80) q1365 q1368 q1366 q1369 q1366 q149 q1374 q1374 hy9_X7_spends hR (Nat.le_of_ble_eq_true rfl) (by decide) rfl rfl (Nat.zero_le _) kk) ?_
      exact gx_dnil
    refine gj_istore (L' := [(6, .int (iI v83)), (0, rv g a0), (1, rv g a1), (2, .int (iI a2)), (3, .int (iI a3)), (4, .int (iI a4)), (5, rv g a5)]) C dX1_spends_86 (by decide) (by simp [List.filter, rv_cat, cat_int, cat_long, fin4_3]) ?_
    refine gx_aload_n C dX1_spends_88 2 rfl ?_
    refine gx_gR (O := "BorrowedLives$State") (nm := "purse") (ds := "[I") (fin := true) C E dX1_spends_89 (by decide +kernel) (Or.inr ⟨_, q292⟩) (fun _ h => h) (fun v89 => ?_)
    refine gj_iload_n C dX1_spends_92 3 rfl ?_
    refine gj_dup2 C dX1_spends_93 rfl (rv_cat _ _) ?_
    refine gx_iald C E dX1_spends_94 (fun v94 => ?_)
    refine gj_iload C dX1_spends_95 0 rfl ?_
    refine gj_isub C dX1_spends_97 ?_
    refine gx_iast C E dX1_spends_98 ?_
    refine gx_aload C dX1_spends_99 6 rfl ?_
    refine gx_shI (rest := []) (fun kk => ?_) (fun v101 => ?_)
    · refine gx_dcons (gx_callOI (x := ⟨"BorrowedLives$Person", "findsHidden", "()Z"⟩) (owner := "BorrowedLives$Person") (t0 := 6) (As := []) (rest := []) C E rfl dX1_spends_101 (mx7_findsHidden (cx_l X) g a5) q1329 q1332 q1330 q1331 q1330 q149 q1338 q1338 hy9_X7_findsHidden hR (Nat.le_of_ble_eq_true rfl) (by decide) rfl rfl (Nat.zero_le _) kk) ?_
      refine gx_dcons (gx_callOI (x := ⟨"BorrowedLives$Person", "findsHidden", "()Z"⟩) (owner := "BorrowedLives$Person") (t0 := 7) (As := []) (rest := []) C E rfl dX1_spends_101 (mx7_findsHidden (cx_l X) g a5) q1329 q1332 q1330 q1334 q1330 q149 q1338 q1338 hy9_X7_findsHidden hR (Nat.le_of_ble_eq_true rfl) (by decide) rfl rfl (Nat.zero_le _) kk) ?_
      refine gx_dcons (gx_callOI (x := ⟨"BorrowedLives$Person", "findsHidden", "()Z"⟩) (owner := "BorrowedLives$Person") (t0 := 8) (As := []) (rest := []) C E rfl dX1_spends_101 (mx9_findsHidden (cx_l X) g a5) q1329 q1332 q1330 q1335 q1336 q151 q1337 q1338 hy9_X7_findsHidden hR (Nat.le_of_ble_eq_true rfl) (by decide) rfl rfl (Nat.zero_le _) kk) ?_
      refine gx_dcons (gx_callOI (x := ⟨"BorrowedLives$Person", "findsHidden", "()Z"⟩) (owner := "BorrowedLives$Person") (t0 := 9) (As := []) (rest := []) C E rfl dX1_spends_101 (mx7_findsHidden (cx_l X) g a5) q1329 q1332 q1330 q1333 q1330 q149 q1338 q1338 hy9_X7_findsHidden hR (Nat.le_of_ble_eq_true rfl) (by decide) rfl rfl (Nat.zero_le _) kk) ?_
      exact gx_dnil
    refine gj_if_eq (tgt := 116) C dX1_spends_104 (by decide) (fun h104 => gj_pos h104 ?_) (fun h104 => gj_neg h104 ?_)
    · refine gx_aload C dX1_spends_116 6 rfl ?_
      refine gx_shI (rest := []) (fun kk => ?_) (fun v118 => ?_)
      · refine gx_dcons (gx_callOI (x := ⟨"BorrowedLives$Person", "paysDebts", "()Z"⟩) (owner := "BorrowedLives$Person") (t0 := 6) (As := []) (rest := []) C E rfl dX1_spends_118 (mx7_paysDebts (cx_l X) g a5) q1380 q1383 q1381 q1382 q1381 q149 q1389 q1389 hy9_X7_paysDebts hR (Nat.le_of_ble_eq_true rfl) (by decide) rfl rfl (Nat.zero_le _) kk) ?_
        refine gx_dcons (gx_callOI (x := ⟨"BorrowedLives$Person", "paysDebts", "()Z"⟩) (owner := "BorrowedLives$Person") (t0 := 7) (As := []) (rest := []) C E rfl dX1_spends_118 (mx7_paysDebts (cx_l X) g a5) q1380 q1383 q1381 q1387 q1381 q149 q1389 q1389 hy9_X7_paysDebts hR (Nat.le_of_ble_eq_true rfl) (by decide) rfl rfl (Nat.zero_le _) kk) ?_
        refine gx_dcons (gx_callOI (x := ⟨"BorrowedLives$Person", "paysDebts", "()Z"⟩) (owner := "BorrowedLives$Person") (t0 := 8) (As := []) (rest := []) C E rfl dX1_spends_118 (mx7_paysDebts (cx_l X) g a5) q1380 q1383 q1381 q1388 q1381 q149 q1389 q1389 hy9_X7_paysDebts hR (Nat.le_of_ble_eq_true rfl) (by decide) rfl rfl (Nat.zero_le _) kk) ?_
        refine gx_dcons (gx_callOI (x := ⟨"BorrowedLives$Person", "paysDebts", "()Z"⟩) (owner := "BorrowedLives$Person") (t0 := 9) (As := []) (rest := []) C E rfl dX1_spends_118 (mx10_paysDebts (cx_l X) g a5) q1380 q1383 q1381 q1384 q1385 q152 q1386 q1389 hy9_X7_paysDebts hR (Nat.le_of_ble_eq_true rfl) (by decide) rfl rfl (Nat.zero_le _) kk) ?_
        exact gx_dnil
      refine gj_if_eq (tgt := 138) C dX1_spends_121 (by decide) (fun h121 => gj_pos h121 ?_) (fun h121 => gj_neg h121 ?_)
      · refine gj_iconst C dX1_spends_138 ?_
        exact gj_to [1, 2, 3, 0] (J139 a0 a1 a2 v83 0) rfl
      · refine gj_iload C dX1_spends_124 0 rfl ?_
        refine gx_aload_n C dX1_spends_126 2 rfl ?_
        refine gx_gR (O := "BorrowedLives$State") (nm := "debt") (ds := "[I") (fin := true) C E dX1_spends_127 (by decide +kernel) (Or.inr ⟨_, q294⟩) (fun _ h => h) (fun v127 => ?_)
        refine gj_iload_n C dX1_spends_130 3 rfl ?_
        refine gx_iald C E dX1_spends_131 (fun v131 => ?_)
        refine gx_min C E dX1_spends_132 q1361 q517 q137 q518 hR (Nat.le_of_ble_eq_true rfl) (Nat.zero_le _) ?_
        refine gj_goto (tgt := 139) C dX1_spends_135 (by decide) ?_
        exact gj_to [1, 2, 3, 0] (J139 a0 a1 a2 v83 (zmin v83 v131)) rfl
    · refine gx_aload_n C dX1_spends_107 2 rfl ?_
      refine gj_iload C dX1_spends_108 5 rfl ?_
      refine gj_iload C dX1_spends_110 0 rfl ?_
      refine gx_callVV (t0 := 4) (As := [.int (iI a4), .int (iI v83)]) (rest := []) C E rfl dX1_spends_112 (mx4_gets (cx_l X) g a1 a4 v83) (lw_V q1375 q1376 q1377 q131 q1378) hyx_X4_gets rfl hR (Nat.le_of_ble_eq_true rfl) (by decide) rfl rfl (Nat.zero_le _) ?_
      exact gx_vret C hQ hr dX1_spends_115
  unfold x1_spends
  refine gx_aload_n C dX1_spends_0 1 rfl ?_
  refine gx_gR (O := "BorrowedLives$State") (nm := "self") (ds := "[I") (fin := true) C E dX1_spends_1 (by decide +kernel) (Or.inr ⟨_, q303⟩) (fun _ h => h) (fun v1 => ?_)
  refine gj_iload_n C dX1_spends_4 2 rfl ?_
  refine gx_iald C E dX1_spends_5 (fun v5 => ?_)
  refine gj_istore (L' := [(4, _), (0, _), (1, _), (2, _), (3, _)]) C dX1_spends_6 (by decide) rfl ?_
  refine gx_aload_n C dX1_spends_8 1 rfl ?_
  refine gj_iload C dX1_spends_9 0 rfl ?_
  refine gx_callVR (t0 := 1) (As := [.int (iI v5)]) (rest := []) C E rfl dX1_spends_11 (mx1_person_2 (cx_l X) g a0 v5) (lw_V q1200 q1202 qs30 q125 q1203) hyx_X1_person_2 rfl hR (Nat.le_of_ble_eq_true rfl) (by decide) rfl rfl (Nat.zero_le _) (fun v11 => ?_)
  refine gx_astore (L' := [(5, _), (4, _), (0, _), (1, _), (2, _), (3, _)]) C dX1_spends_14 (by decide) rfl ?_
  refine gx_aload_n C dX1_spends_16 2 rfl ?_
  refine gx_aload_n C dX1_spends_17 3 rfl ?_
  refine gj_iload_n C dX1_spends_18 4 rfl ?_
  refine gj_iload C dX1_spends_19 1 rfl ?_
  refine gx_aload C dX1_spends_21 0 rfl ?_
  refine gx_shI (rest := [.int (iI v5), .int (iI a2), rv g a1, rv g a0]) (fun kk => ?_) (fun v23 => ?_)
  · refine gx_dcons (gx_callOI (x := ⟨"BorrowedLives$Person", "findsHidden", "()Z"⟩) (owner := "BorrowedLives$Person") (t0 := 6) (As := []) (rest := [.int (iI v5), .int (iI a2), rv g a1, rv g a0]) C E rfl dX1_spends_23 (mx7_findsHidden (cx_l X) g v11) q1329 q1332 q1330 q1331 q1330 q149 q1338 q1338 hy9_X7_findsHidden hR (Nat.le_of_ble_eq_true rfl) (by decide) rfl rfl (by simp only [List.map_cons, List.map_nil, List.sum_cons, List.sum_nil, rv_cat, cat_int, cat_long]; decide) kk) ?_
    refine gx_dcons (gx_callOI (x := ⟨"BorrowedLives$Person", "findsHidden", "()Z"⟩) (owner := "BorrowedLives$Person") (t0 := 7) (As := []) (rest := [.int (iI v5), .int (iI a2), rv g a1, rv g a0]) C E rfl dX1_spends_23 (mx7_findsHidden (cx_l X) g v11) q1329 q1332 q1330 q1334 q1330 q149 q1338 q1338 hy9_X7_findsHidden hR (Nat.le_of_ble_eq_true rfl) (by decide) rfl rfl (by simp only [List.map_cons, List.map_nil, List.sum_cons, List.sum_nil, rv_cat, cat_int, cat_long]; decide) kk) ?_
    refine gx_dcons (gx_callOI (x := ⟨"BorrowedLives$Person", "findsHidden", "()Z"⟩) (owner := "BorrowedLives$Person") (t0 := 8) (As := []) (rest := [.int (iI v5), .int (iI a2), rv g a1, rv g a0]) C E rfl dX1_spends_23 (mx9_findsHidden (cx_l X) g v11) q1329 q1332 q1330 q1335 q1336 q151 q1337 q1338 hy9_X7_findsHidden hR (Nat.le_of_ble_eq_true rfl) (by decide) rfl rfl (by simp only [List.map_cons, List.map_nil, List.sum_cons, List.sum_nil, rv_cat, cat_int, cat_long]; decide) kk) ?_
    refine gx_dcons (gx_callOI (x := ⟨"BorrowedLives$Person", "findsHidden", "()Z"⟩) (owner := "BorrowedLives$Person") (t0 := 9) (As := []) (rest := [.int (iI v5), .int (iI a2), rv g a1, rv g a0]) C E rfl dX1_spends_23 (mx7_findsHidden (cx_l X) g v11) q1329 q1332 q1330 q1333 q1330 q149 q1338 q1338 hy9_X7_findsHidden hR (Nat.le_of_ble_eq_true rfl) (by decide) rfl rfl (by simp only [List.map_cons, List.map_nil, List.sum_cons, List.sum_nil, rv_cat, cat_int, cat_long]; decide) kk) ?_
    exact gx_dnil
  refine gx_callVV (t0 := 1) (As := [rv g a1, .int (iI a2), .int (iI v5), .int (iI v23)]) (rest := []) C E rfl dX1_spends_26 (mx1_lays (cx_l X) g a0 a1 a2 v5 v23) (lw_V q1339 q1341 qs37 q125 q1342) hyx_X1_lays rfl hR (Nat.le_of_ble_eq_true rfl) (by decide) rfl rfl (Nat.zero_le _) ?_
  refine gx_aload_n C dX1_spends_29 2 rfl ?_
  refine gx_gR (O := "BorrowedLives") (nm := "town") (ds := "LBorrowedLives$Town;") (fin := false) C E dX1_spends_30 (by decide +kernel) (Or.inl q377) (fun _ h => h) (fun v30 => ?_)
  refine gx_gR (O := "BorrowedLives$Town") (nm := "spends") (ds := "LBorrowedLives$Expression;") (fin := false) C E dX1_spends_33 (by decide +kernel) (Or.inr ⟨_, q260⟩) (fun _ h => h) (fun v33 => ?_)
  refine gx_ifnonnull (tgt := 49) C dX1_spends_36 (by decide) (fun h36 => gj_neg h36 ?_) (fun h36 => gj_pos h36 ?_)
  · refine gx_aload_n C dX1_spends_49 2 rfl ?_
    refine gx_gR (O := "BorrowedLives") (nm := "town") (ds := "LBorrowedLives$Town;") (fin := false) C E dX1_spends_50 (by decide +kernel) (Or.inl q377) (fun _ h => h) (fun v50 => ?_)
    refine gx_gR (O := "BorrowedLives$Town") (nm := "spends") (ds := "LBorrowedLives$Expression;") (fin := false) C E dX1_spends_53 (by decide +kernel) (Or.inr ⟨_, q260⟩) (fun _ h => h) (fun v53 => ?_)
    refine gx_aload_n C dX1_spends_56 2 rfl ?_
    refine gx_gR (O := "BorrowedLives") (nm := "facts") (ds := "[I") (fin := true) C E dX1_spends_57 (by decide +kernel) (Or.inl q387) (fun _ h => h) (fun v57 => ?_)
    refine gx_shI (rest := []) (fun kk => ?_) (fun v60 => ?_)
    · refine gx_dcons (gx_callAI (x := ⟨"BorrowedLives$Expression", "worked", "([I)I"⟩) (owner := "BorrowedLives$Expression") (t0 := 10) (As := [rv g v57]) (rest := []) C E rfl dX1_spends_60 (mx12_worked (cx_l X) g v53 v57) q1344 q1346 q1350 q1351 q154 q1352 q1345 hy9_X11_worked hR (Nat.le_of_ble_eq_true rfl) (by decide) rfl rfl (Nat.zero_le _) kk) ?_
      refine gx_dcons (gx_callAI (x := ⟨"BorrowedLives$Expression", "worked", "([I)I"⟩) (owner := "BorrowedLives$Expression") (t0 := 11) (As := [rv g v57]) (rest := []) C E rfl dX1_spends_60 (mx13_worked (cx_l X) g v53 v57) q1344 q1346 q1347 q1348 q155 q1349 q1345 hy9_X11_worked hR (Nat.le_of_ble_eq_true rfl) (by decide) rfl rfl (Nat.zero_le _) kk) ?_
      refine gx_dcons (gx_callAI (x := ⟨"BorrowedLives$Expression", "worked", "([I)I"⟩) (owner := "BorrowedLives$Expression") (t0 := 12) (As := [rv g v57]) (rest := []) C E rfl dX1_spends_60 ((mxwk (cx_l X) g 700).1 v53 v57) q1344 q1346 q1353 q1354 q156 q1355 q1345 hy9_X11_worked hR (Nat.le_of_ble_eq_true rfl) (by decide) rfl rfl (Nat.zero_le _) kk) ?_
      refine gx_dcons (gx_callAI (x := ⟨"BorrowedLives$Expression", "worked", "([I)I"⟩) (owner := "BorrowedLives$Expression") (t0 := 13) (As := [rv g v57]) (rest := []) C E rfl dX1_spends_60 ((mxwk (cx_l X) g 700).2 v53 v57) q1344 q1346 q1360 q1357 q157 q1358 q1345 hy9_X11_worked hR (Nat.le_of_ble_eq_true rfl) (by decide) rfl rfl (Nat.zero_le _) kk) ?_
      exact gx_dnil
    exact gj_to [2, 3, 4, 5, 1, 0] (J63 a0 a1 a2 a3 v5 v11 v60) rfl
  · refine gx_aload C dX1_spends_39 0 rfl ?_
    refine gx_gIs (O := "BorrowedLives$Person") (nm := "skill") (ds := "I") (fin := false) C E dX1_spends_41 (by decide +kernel) (Or.inl q879) (fun _ h => h) (fun v41 => ?_)
    refine gj_iconst C dX1_spends_44 ?_
    refine gj_imul C dX1_spends_45 ?_
    refine gj_goto (tgt := 63) C dX1_spends_46 (by decide) ?_
    exact gj_to [2, 3, 4, 5, 1, 0] (J63 a0 a1 a2 a3 v5 v11 (v41 * 2)) rfl
def x1_mends_j87 (a1 : Option Nat) (a2 a5 : Int) : PT Hp Unit :=
  pbnd (xgR a1 4 2) fun v88 =>
  pbnd (xgR a1 4 2) fun v93 =>
  pbnd (xld v93 40 a2) fun v97 =>
  pbnd (x1_between (v97 + a5) 0 9) fun v104 =>
  pbnd (xst v88 40 a2 v104) fun _ =>
  pret ()
def x1_mends (a0 a1 : Option Nat) (a2 : Int) : PT Hp Unit :=
  pbnd (xgR a1 4 6) fun v1 =>
  pbnd (xld v1 40 a2) fun v5 =>
  pbnd (xrecv a0 1) fun _ =>
  pbnd (x1_person_2 a0 v5) fun v9 =>
  pbnd (xgIs v9 [6, 7, 8, 9] 1) fun v12 =>
  plet (if 4 < w32 v12 then 1 else if w32 v12 < 3 then (-1) else 0) fun v38 =>
  pbnd (xrecv a0 1) fun _ =>
  pbnd (x1_person_2 a0 v5) fun v46 =>
  pbnd (xdisp v46 [(6, x7_findsHidden v46), (7, x7_findsHidden v46), (8, x9_findsHidden v46), (9, x7_findsHidden v46)]) fun v49 =>
  pbnd (xrecv a0 1) fun _ =>
  pbnd (x1_lays a0 a1 a2 v5 v49) fun _ =>
  pbnd (xgR a0 1 2) fun v56 =>
  pbnd (xgR v56 3 4) fun v59 =>
  pite (v59 = none) (
    x1_mends_j87 a1 a2 v38) (
    pbnd (xgR a0 1 2) fun v66 =>
    pbnd (xgR v66 3 4) fun v69 =>
    pbnd (xgR a0 1 7) fun v73 =>
    pbnd (xdisp v69 [(10, x12_worked v69 v73), (11, x13_worked v69 v73), (12, (xwk 700).1 v69 v73), (13, (xwk 700).2 v69 v73)]) fun v76 =>
    pbnd (x1_between v76 (-3) 3) fun v82 =>
    x1_mends_j87 a1 a2 v82)
set_option maxHeartbeats 4000000 in
set_option maxRecDepth 100000 in
theorem mx1_mends (l : Launch) (g : XG) (a0 a1 : Option Nat) (a2 : Int) : XMet l g yX1_mends cX1_mends 6 (Option.none : Option Jvm.ClassFile.FieldType) (702) [rv g a0, rv g a1, .int (iI a2)] (x1_mends a0 a1 a2) rvV := by
  refine gx_start (by decide +kernel) (by have e := lg_sl_len [rv g a0, rv g a1, .int (iI a2)]; simp only [List.map_cons, List.map_nil, List.sum_cons, List.sum_nil, rv_cat, cat_int, cat_long] at e; omega) (fun X Q σ0 hl C E hQ hR hr hnm => ?_)
  subst hl
  rw [show lv_args 0 [rv g a0, rv g a1, .int (iI a2)] = [(0, rv g a0), (1, rv g a1), (2, .int (iI a2))] from by simp [lv_args, rv_cat, cat_int, cat_long]]
  show GJ X 6 (xWo g σ0 (cx_s X).heap) Q (x1_mends a0 a1 a2) 0 [(0, rv g a0), (1, rv g a1), (2, .int (iI a2))] []
  have J87 : ∀ (a1 : Option Nat) (a2 a5 : Int), GJ X 6 (xWo g σ0 (cx_s X).heap) Q (x1_mends_j87 a1 a2 a5) 87 [(1, rv g a1), (2, .int (iI a2)), (5, .int (iI a5))] [] := by
    intro a1 a2 a5
    unfold x1_mends_j87
    refine gx_aload_n C dX1_mends_87 0 rfl ?_
    refine gx_gR (O := "BorrowedLives$State") (nm := "home") (ds := "[I") (fin := true) C E dX1_mends_88 (by decide +kernel) (Or.inr ⟨_, q296⟩) (fun _ h => h) (fun v88 => ?_)
    refine gj_iload_n C dX1_mends_91 1 rfl ?_
    refine gx_aload_n C dX1_mends_92 0 rfl ?_
    refine gx_gR (O := "BorrowedLives$State") (nm := "home") (ds := "[I") (fin := true) C E dX1_mends_93 (by decide +kernel) (Or.inr ⟨_, q296⟩) (fun _ h => h) (fun v93 => ?_)
    refine gj_iload_n C dX1_mends_96 1 rfl ?_
    refine gx_iald C E dX1_mends_97 (fun v97 => ?_)
    refine gj_iload C dX1_mends_98 2 rfl ?_
    refine gj_iadd C dX1_mends_100 ?_
    refine gj_iconst C dX1_mends_101 ?_
    refine gj_bipush C dX1_mends_102 rfl ?_
    refine gx_callSI (As := [.int (iI ((v97 + a5))), .int (iI 0), .int (iI 9)]) (rest := [.int (iI a2), rv g v88]) C E dX1_mends_104 (mx1_between (cx_l X) g (v97 + a5) 0 9) (lw_S q1362 q1363 q125 q1364) hyx_X1_between hR (Nat.le_of_ble_eq_true rfl) (by decide) rfl rfl (by simp only [List.map_cons, List.map_nil, List.sum_cons, List.sum_nil, rv_cat, cat_int, cat_long]; decide) (fun v104 => ?_)
    refine gx_iast C E dX1_mends_107 ?_
    exact gx_vret C hQ hr dX1_mends_108
  unfold x1_mends
  refine gx_aload_n C dX1_mends_0 1 rfl ?_
  refine gx_gR (O := "BorrowedLives$State") (nm := "self") (ds := "[I") (fin := true) C E dX1_mends_1 (by decide +kernel) (Or.inr ⟨_, q303⟩) (fun _ h => h) (fun v1 => ?_)
  refine gj_iload_n C dX1_mends_4 2 rfl ?_
  refine gx_iald C E dX1_mends_5 (fun v5 => ?_)
  refine gj_istore_n (L' := [(3, _), (0, _), (1, _), (2, _)]) C dX1_mends_6 (by decide) rfl ?_
  refine gx_aload_n C dX1_mends_7 1 rfl ?_
  refine gj_iload_n C dX1_mends_8 0 rfl ?_
  refine gx_callVR (t0 := 1) (As := [.int (iI v5)]) (rest := []) C E rfl dX1_mends_9 (mx1_person_2 (cx_l X) g a0 v5) (lw_V q1200 q1202 qs30 q125 q1203) hyx_X1_person_2 rfl hR (Nat.le_of_ble_eq_true rfl) (by decide) rfl rfl (Nat.zero_le _) (fun v9 => ?_)
  refine gx_gIs (O := "BorrowedLives$Person") (nm := "skill") (ds := "I") (fin := false) C E dX1_mends_12 (by decide +kernel) (Or.inl q879) (fun _ h => h) (fun v12 => ?_)
  refine gj_istore (L' := [(4, _), (3, _), (0, _), (1, _), (2, _)]) C dX1_mends_15 (by decide) rfl ?_
  refine gj_iload C dX1_mends_17 0 rfl ?_
  refine gj_iconst C dX1_mends_19 ?_
  refine gj_dia (J := 38) (L := [(4, .int (iI v12)), (3, .int (iI v5)), (0, rv g a0), (1, rv g a1), (2, .int (iI a2))]) (st := []) (fun v38 => ?_) (fun t hJ => ?_)
  · skip
    refine gj_istore (L' := [(5, _), (4, _), (3, _), (0, _), (1, _), (2, _)]) C dX1_mends_38 (by decide) rfl ?_
    refine gx_aload_n C dX1_mends_40 3 rfl ?_
    refine gx_aload_n C dX1_mends_41 4 rfl ?_
    refine gj_iload_n C dX1_mends_42 5 rfl ?_
    refine gj_iload_n C dX1_mends_43 2 rfl ?_
    refine gx_aload_n C dX1_mends_44 3 rfl ?_
    refine gj_iload_n C dX1_mends_45 2 rfl ?_
    refine gx_callVR (t0 := 1) (As := [.int (iI v5)]) (rest := [.int (iI v5), .int (iI a2), rv g a1, rv g a0]) C E rfl dX1_mends_46 (mx1_person_2 (cx_l X) g a0 v5) (lw_V q1200 q1202 qs30 q125 q1203) hyx_X1_person_2 rfl hR (Nat.le_of_ble_eq_true rfl) (by decide) rfl rfl (by simp only [List.map_cons, List.map_nil, List.sum_cons, List.sum_nil, rv_cat, cat_int, cat_long]; decide) (fun v46 => ?_)
    refine gx_shI (rest := [.int (iI v5), .int (iI a2), rv g a1, rv g a0]) (fun kk => ?_) (fun v49 => ?_)
    · refine gx_dcons (gx_callOI (x := ⟨"BorrowedLives$Person", "findsHidden", "()Z"⟩) (owner := "BorrowedLives$Person") (t0 := 6) (As := []) (rest := [.int (iI v5), .int (iI a2), rv g a1, rv g a0]) C E rfl dX1_mends_49 (mx7_findsHidden (cx_l X) g v46) q1329 q1332 q1330 q1331 q1330 q149 q1338 q1338 hy9_X7_findsHidden hR (Nat.le_of_ble_eq_true rfl) (by decide) rfl rfl (by simp only [List.map_cons, List.map_nil, List.sum_cons, List.sum_nil, rv_cat, cat_int, cat_long]; decide) kk) ?_
      refine gx_dcons (gx_callOI (x := ⟨"BorrowedLives$Person", "findsHidden", "()Z"⟩) (owner := "BorrowedLives$Person") (t0 := 7) (As := []) (rest := [.int (iI v5), .int (iI a2), rv g a1, rv g a0]) C E rfl dX1_mends_49 (mx7_findsHidden (cx_l X) g v46) q1329 q1332 q1330 q1334 q1330 q149 q1338 q1338 hy9_X7_findsHidden hR (Nat.le_of_ble_eq_true rfl) (by decide) rfl rfl (by simp only [List.map_cons, List.map_nil, List.sum_cons, List.sum_nil, rv_cat, cat_int, cat_long]; decide) kk) ?_
      refine gx_dcons (gx_callOI (x := ⟨"BorrowedLives$Person", "findsHidden", "()Z"⟩) (owner := "BorrowedLives$Person") (t0 := 8) (As := []) (rest := [.int (iI v5), .int (iI a2), rv g a1, rv g a0]) C E rfl dX1_mends_49 (mx9_findsHidden (cx_l X) g v46) q1329 q1332 q1330 q1335 q1336 q151 q1337 q1338 hy9_X7_findsHidden hR (Nat.le_of_ble_eq_true rfl) (by decide) rfl rfl (by simp only [List.map_cons, List.map_nil, List.sum_cons, List.sum_nil, rv_cat, cat_int, cat_long]; decide) kk) ?_
      refine gx_dcons (gx_callOI (x := ⟨"BorrowedLives$Person", "findsHidden", "()Z"⟩) (owner := "BorrowedLives$Person") (t0 := 9) (As := []) (rest := [.int (iI v5), .int (iI a2), rv g a1, rv g a0]) C E rfl dX1_mends_49 (mx7_findsHidden (cx_l X) g v46) q1329 q1332 q1330 q1333 q1330 q149 q1338 q1338 hy9_X7_findsHidden hR (Nat.le_of_ble_eq_true rfl) (by decide) rfl rfl (by simp only [List.map_cons, List.map_nil, List.sum_cons, List.sum_nil, rv_cat, cat_int, cat_long]; decide) kk) ?_
      exact gx_dnil
    refine gx_callVV (t0 := 1) (As := [rv g a1, .int (iI a2), .int (iI v5), .int (iI v49)]) (rest := []) C E rfl dX1_mends_52 (mx1_lays (cx_l X) g a0 a1 a2 v5 v49) (lw_V q1339 q1341 qs37 q125 q1342) hyx_X1_lays rfl hR (Nat.le_of_ble_eq_true rfl) (by decide) rfl rfl (Nat.zero_le _) ?_
    refine gx_aload_n C dX1_mends_55 3 rfl ?_
    refine gx_gR (O := "BorrowedLives") (nm := "town") (ds := "LBorrowedLives$Town;") (fin := false) C E dX1_mends_56 (by decide +kernel) (Or.inl q377) (fun _ h => h) (fun v56 => ?_)
    refine gx_gR (O := "BorrowedLives$Town") (nm := "mends") (ds := "LBorrowedLives$Expression;") (fin := false) C E dX1_mends_59 (by decide +kernel) (Or.inr ⟨_, q262⟩) (fun _ h => h) (fun v59 => ?_)
    refine gx_ifnull (tgt := 87) C dX1_mends_62 (by decide) (fun h62 => gj_pos h62 ?_) (fun h62 => gj_neg h62 ?_)
    · exact gj_to [4, 5, 0] (J87 a1 a2 v38) rfl
    · refine gx_aload_n C dX1_mends_65 3 rfl ?_
      refine gx_gR (O := "BorrowedLives") (nm := "town") (ds := "LBorrowedLives$Town;") (fin := false) C E dX1_mends_66 (by decide +kernel) (Or.inl q377) (fun _ h => h) (fun v66 => ?_)
      refine gx_gR (O := "BorrowedLives$Town") (nm := "mends") (ds := "LBorrowedLives$Expression;") (fin := false) C E dX1_mends_69 (by decide +kernel) (Or.inr ⟨_, q262⟩) (fun _ h => h) (fun v69 => ?_)
      refine gx_aload_n C dX1_mends_72 3 rfl ?_
      refine gx_gR (O := "BorrowedLives") (nm := "facts") (ds := "[I") (fin := true) C E dX1_mends_73 (by decide +kernel) (Or.inl q387) (fun _ h => h) (fun v73 => ?_)
      refine gx_shI (rest := []) (fun kk => ?_) (fun v76 => ?_)
      · refine gx_dcons (gx_callAI (x := ⟨"BorrowedLives$Expression", "worked", "([I)I"⟩) (owner := "BorrowedLives$Expression") (t0 := 10) (As := [rv g v73]) (rest := []) C E rfl dX1_mends_76 (mx12_worked (cx_l X) g v69 v73) q1344 q1346 q1350 q1351 q154 q1352 q1345 hy9_X11_worked hR (Nat.le_of_ble_eq_true rfl) (by decide) rfl rfl (Nat.zero_le _) kk) ?_
        refine gx_dcons (gx_callAI (x := ⟨"BorrowedLives$Expression", "worked", "([I)I"⟩) (owner := "BorrowedLives$Expression") (t0 := 11) (As := [rv g v73]) (rest := []) C E rfl dX1_mends_76 (mx13_worked (cx_l X) g v69 v73) q1344 q1346 q1347 q1348 q155 q1349 q1345 hy9_X11_worked hR (Nat.le_of_ble_eq_true rfl) (by decide) rfl rfl (Nat.zero_le _) kk) ?_
        refine gx_dcons (gx_callAI (x := ⟨"BorrowedLives$Expression", "worked", "([I)I"⟩) (owner := "BorrowedLives$Expression") (t0 := 12) (As := [rv g v73]) (rest := []) C E rfl dX1_mends_76 ((mxwk (cx_l X) g 700).1 v69 v73) q1344 q1346 q1353 q1354 q156 q1355 q1345 hy9_X11_worked hR (Nat.le_of_ble_eq_true rfl) (by decide) rfl rfl (Nat.zero_le _) kk) ?_
        refine gx_dcons (gx_callAI (x := ⟨"BorrowedLives$Expression", "worked", "([I)I"⟩) (owner := "BorrowedLives$Expression") (t0 := 13) (As := [rv g v73]) (rest := []) C E rfl dX1_mends_76 ((mxwk (cx_l X) g 700).2 v69 v73) q1344 q1346 q1360 q1357 q157 q1358 q1345 hy9_X11_worked hR (Nat.le_of_ble_eq_true rfl) (by decide) rfl rfl (Nat.zero_le _) kk) ?_
        exact gx_dnil
      refine gj_bipush C dX1_mends_79 rfl ?_
      refine gj_iconst C dX1_mends_81 ?_
      refine gx_callSI (As := [.int (iI v76), .int (iI (-3)), .int (iI 3)]) (rest := []) C E dX1_mends_82 (mx1_between (cx_l X) g v76 (-3) 3) (lw_S q1362 q1363 q125 q1364) hyx_X1_between hR (Nat.le_of_ble_eq_true rfl) (by decide) rfl rfl (Nat.zero_le _) (fun v82 => ?_)
      refine gj_istore (L' := [(5, _), (4, _), (3, _), (0, _), (1, _), (2, _)]) C dX1_mends_85 (by decide) rfl ?_
      exact gj_to [4, 5, 0] (J87 a1 a2 v82) rfl
  · refine gj_icmp_le (tgt := 27) (b' := 4) C dX1_mends_20 (by decide) rfl (by decide) (fun h20 => ?_) (fun h20 => ?_)
    · refine gj_iload C dX1_mends_27 0 rfl ?_
      refine gj_iconst C dX1_mends_29 ?_
      refine gj_icmp_ge (tgt := 37) (b' := 3) C dX1_mends_30 (by decide) rfl (by decide) (fun h30 => ?_) (fun h30 => ?_)
      · refine gj_iconst C dX1_mends_37 ?_
        exact (by rw [if_neg h20, if_neg h30] at hJ; exact hJ)
      · refine gj_iconst C dX1_mends_33 ?_
        refine gj_goto (tgt := 38) C dX1_mends_34 (by decide) ?_
        exact (by rw [if_neg h20, if_pos h30] at hJ; exact hJ)
    · refine gj_iconst C dX1_mends_23 ?_
      refine gj_goto (tgt := 38) C dX1_mends_24 (by decide) ?_
      exact (by rw [if_pos h20] at hJ; exact hJ)
def x1_passes_b2 (a0 a1 : Option Nat) (a2 : Int) (a3 : Int) (bk2 : (Int) → PT Hp Unit) : PT Hp Unit :=
  pbnd (xrecv a0 1) fun _ =>
  pbnd (x1_people a0) fun v4 =>
  pite (w32 a3 < w32 v4) (
    pbnd (xrecv a0 1) fun _ =>
    pbnd (x1_spends a0 a1 a3 a2) fun _ =>
    pbnd (xrecv a0 1) fun _ =>
    pbnd (x1_mends a0 a1 a3) fun _ =>
    bk2 (a3 + 1)) (
    pbnd (xgI a1 4 8) fun v31 =>
    pbnd (xpI a1 4 8 (v31 + 1)) fun _ =>
    pret ())
def x1_passes_l2 (a0 a1 : Option Nat) (a2 a3 : Int) : PT Hp Unit :=
  ploop (fun (s : (Int)) bk2 => x1_passes_b2 a0 a1 a2 s bk2) (a3)
def x1_passes (a0 a1 : Option Nat) (a2 : Int) : PT Hp Unit :=
  x1_passes_l2 a0 a1 a2 0
set_option maxHeartbeats 4000000 in
set_option maxRecDepth 100000 in
theorem mx1_passes (l : Launch) (g : XG) (a0 a1 : Option Nat) (a2 : Int) : XMet l g yX1_passes cX1_passes 4 (Option.none : Option Jvm.ClassFile.FieldType) (703) [rv g a0, rv g a1, .int (iI a2)] (x1_passes a0 a1 a2) rvV := by
  refine gx_start (by decide +kernel) (by have e := lg_sl_len [rv g a0, rv g a1, .int (iI a2)]; simp only [List.map_cons, List.map_nil, List.sum_cons, List.sum_nil, rv_cat, cat_int, cat_long] at e; omega) (fun X Q σ0 hl C E hQ hR hr hnm => ?_)
  subst hl
  rw [show lv_args 0 [rv g a0, rv g a1, .int (iI a2)] = [(0, rv g a0), (1, rv g a1), (2, .int (iI a2))] from by simp [lv_args, rv_cat, cat_int, cat_long]]
  show GJ X 4 (xWo g σ0 (cx_s X).heap) Q (x1_passes a0 a1 a2) 0 [(0, rv g a0), (1, rv g a1), (2, .int (iI a2))] []
  have J2 : ∀ (a0 a1 : Option Nat) (a2 a3 : Int), GJ X 4 (xWo g σ0 (cx_s X).heap) Q (x1_passes_l2 a0 a1 a2 a3) 2 [(0, rv g a0), (1, rv g a1), (2, .int (iI a2)), (3, .int (iI a3))] [] := by
    intro a0 a1 a2 a3
    unfold x1_passes_l2
    refine gj_loop (fun (s : (Int)) => [(0, rv g a0), (1, rv g a1), (2, .int (iI a2)), (3, .int (iI s))]) (a3) (fun bk2 hb2 s => ?_)
    obtain ⟨a3, rfl⟩ : ∃ z, z = s := ⟨s, rfl⟩
    show GJ X 4 (xWo g σ0 (cx_s X).heap) Q (x1_passes_b2 a0 a1 a2 a3 bk2) 2 [(0, rv g a0), (1, rv g a1), (2, .int (iI a2)), (3, .int (iI a3))] []
    unfold x1_passes_b2
    refine gj_iload_n C dX1_passes_2 3 rfl ?_
    refine gx_aload_n C dX1_passes_3 0 rfl ?_
    refine gx_callVI (t0 := 1) (As := []) (rest := [.int (iI a3)]) C E rfl dX1_passes_4 (mx1_people (cx_l X) g a0) (lw_V q1192 q1194 qs29 q125 q1195) hyx_X1_people rfl hR (Nat.le_of_ble_eq_true rfl) (by decide) rfl rfl (Nat.le_of_ble_eq_true rfl) (fun v4 => ?_)
    refine gj_icmp_ge (tgt := 29) C dX1_passes_7 (by decide) rfl rfl (fun h7 => gj_neg h7 ?_) (fun h7 => gj_pos h7 ?_)
    · refine gx_aload_n C dX1_passes_29 1 rfl ?_
      refine gx_dup C dX1_passes_30 ?_
      refine gx_gI (O := "BorrowedLives$State") (nm := "days") (ds := "I") (fin := false) C E dX1_passes_31 (by decide +kernel) (Or.inr ⟨_, q312⟩) (fun _ h => h) (fun v31 => ?_)
      refine gj_iconst C dX1_passes_34 ?_
      refine gj_iadd C dX1_passes_35 ?_
      refine gx_pI (O := "BorrowedLives$State") (nm := "days") (ds := "I") (fin := false) (ty := .int) C E dX1_passes_36 (by decide +kernel) (Or.inr ⟨_, q312⟩) (fun _ h => h) (fun h => by cases h) (by decide +kernel) (inty_int _) ?_
      exact gx_vret C hQ hr dX1_passes_39
    · refine gx_aload_n C dX1_passes_10 0 rfl ?_
      refine gx_aload_n C dX1_passes_11 1 rfl ?_
      refine gj_iload_n C dX1_passes_12 3 rfl ?_
      refine gj_iload_n C dX1_passes_13 2 rfl ?_
      refine gx_callVV (t0 := 1) (As := [rv g a1, .int (iI a3), .int (iI a2)]) (rest := []) C E rfl dX1_passes_14 (mx1_spends (cx_l X) g a0 a1 a3 a2) (lw_V q1325 q1327 qs36 q125 q1328) hyx_X1_spends rfl hR (Nat.le_of_ble_eq_true rfl) (by decide) rfl rfl (Nat.zero_le _) ?_
      refine gx_aload_n C dX1_passes_17 0 rfl ?_
      refine gx_aload_n C dX1_passes_18 1 rfl ?_
      refine gj_iload_n C dX1_passes_19 3 rfl ?_
      refine gx_callVV (t0 := 1) (As := [rv g a1, .int (iI a3)]) (rest := []) C E rfl dX1_passes_20 (mx1_mends (cx_l X) g a0 a1 a3) (lw_V q1394 q1396 qs39 q125 q1397) hyx_X1_mends rfl hR (Nat.le_of_ble_eq_true rfl) (by decide) rfl rfl (Nat.zero_le _) ?_
      refine gj_iinc (L' := [(3, _), (0, _), (1, _), (2, _)]) C dX1_passes_23 3 rfl (by decide) rfl ?_
      refine gj_goto (tgt := 2) C dX1_passes_26 (by decide) ?_
      exact gj_to [1, 2, 3, 0] (hb2 (a3 + 1)) rfl
  unfold x1_passes
  refine gj_iconst C dX1_passes_0 ?_
  refine gj_istore_n (L' := [(3, _), (0, _), (1, _), (2, _)]) C dX1_passes_1 (by decide) rfl ?_
  exact gj_to [1, 2, 3, 0] (J2 a0 a1 a2 0) rfl
def x22_lives_b25 (a0 : Option Nat) (a3 : Int) (a4 : Int) (bk25 : (Int) → PT Hp Unit) : PT Hp Unit :=
  pite (w32 a4 < 7) (
    pbnd (xgRs a0 [19, 20, 21, 22, 23, 24] 1) fun v33 =>
    pbnd (xgRs a0 [19, 20, 21, 22, 23, 24] 1) fun v37 =>
    pbnd (xgR v37 1 6) fun v40 =>
    pbnd (xrecv v33 1) fun _ =>
    pbnd (x1_passes v33 v40 a3) fun _ =>
    bk25 (a4 + 1)) (
    pret ())
def x22_lives_l25 (a0 : Option Nat) (a3 a4 : Int) : PT Hp Unit :=
  ploop (fun (s : (Int)) bk25 => x22_lives_b25 a0 a3 s bk25) (a4)
def x22_lives (a0 a1 a2 : Option Nat) (a3 : Int) : PT Hp Unit :=
  pbnd (xgRs a0 [19, 20, 21, 22, 23, 24] 1) fun v1 =>
  pbnd (xgR v1 1 6) fun v4 =>
  pbnd (xrecv v4 4) fun _ =>
  pbnd (x4_be v4 a1) fun _ =>
  pbnd (xgRs a0 [19, 20, 21, 22, 23, 24] 1) fun v12 =>
  pbnd (xgR v12 1 6) fun v15 =>
  pbnd (xrecv v15 4) fun _ =>
  pbnd (x4_goes v15 a2) fun _ =>
  x22_lives_l25 a0 a3 0
set_option maxHeartbeats 4000000 in
set_option maxRecDepth 100000 in
theorem mx22_lives (l : Launch) (g : XG) (a0 a1 a2 : Option Nat) (a3 : Int) : XMet l g yX22_lives cX22_lives 5 (Option.none : Option Jvm.ClassFile.FieldType) (704) [rv g a0, rv g a1, rv g a2, .int (iI a3)] (x22_lives a0 a1 a2 a3) rvV := by
  refine gx_start (by decide +kernel) (by have e := lg_sl_len [rv g a0, rv g a1, rv g a2, .int (iI a3)]; simp only [List.map_cons, List.map_nil, List.sum_cons, List.sum_nil, rv_cat, cat_int, cat_long] at e; omega) (fun X Q σ0 hl C E hQ hR hr hnm => ?_)
  subst hl
  rw [show lv_args 0 [rv g a0, rv g a1, rv g a2, .int (iI a3)] = [(0, rv g a0), (1, rv g a1), (2, rv g a2), (3, .int (iI a3))] from by simp [lv_args, rv_cat, cat_int, cat_long]]
  show GJ X 5 (xWo g σ0 (cx_s X).heap) Q (x22_lives a0 a1 a2 a3) 0 [(0, rv g a0), (1, rv g a1), (2, rv g a2), (3, .int (iI a3))] []
  have J25 : ∀ (a0 : Option Nat) (a3 a4 : Int), GJ X 5 (xWo g σ0 (cx_s X).heap) Q (x22_lives_l25 a0 a3 a4) 25 [(0, rv g a0), (3, .int (iI a3)), (4, .int (iI a4))] [] := by
    intro a0 a3 a4
    unfold x22_lives_l25
    refine gj_loop (fun (s : (Int)) => [(0, rv g a0), (3, .int (iI a3)), (4, .int (iI s))]) (a4) (fun bk25 hb25 s => ?_)
    obtain ⟨a4, rfl⟩ : ∃ z, z = s := ⟨s, rfl⟩
    show GJ X 5 (xWo g σ0 (cx_s X).heap) Q (x22_lives_b25 a0 a3 a4 bk25) 25 [(0, rv g a0), (3, .int (iI a3)), (4, .int (iI a4))] []
    unfold x22_lives_b25
    refine gj_iload C dX22_lives_25 2 rfl ?_
    refine gj_bipush C dX22_lives_27 rfl ?_
    refine gj_icmp_ge (tgt := 53) (b' := 7) C dX22_lives_29 (by decide) rfl (by decide) (fun h29 => gj_neg h29 ?_) (fun h29 => gj_pos h29 ?_)
    · exact gx_vret C hQ hr dX22_lives_53
    · refine gx_aload_n C dX22_lives_32 0 rfl ?_
      refine gx_gRs (O := "BorrowedLives$Looker") (nm := "this$0") (ds := "LBorrowedLives;") (fin := true) C E dX22_lives_33 (by decide +kernel) (Or.inl q1274) (fun _ h => h) (fun v33 => ?_)
      refine gx_aload_n C dX22_lives_36 0 rfl ?_
      refine gx_gRs (O := "BorrowedLives$Looker") (nm := "this$0") (ds := "LBorrowedLives;") (fin := true) C E dX22_lives_37 (by decide +kernel) (Or.inl q1274) (fun _ h => h) (fun v37 => ?_)
      refine gx_gR (O := "BorrowedLives") (nm := "week") (ds := "LBorrowedLives$State;") (fin := true) C E dX22_lives_40 (by decide +kernel) (Or.inr ⟨_, q385⟩) (fun _ h => h) (fun v40 => ?_)
      refine gj_iload_n C dX22_lives_43 1 rfl ?_
      refine gx_callVNV (t0 := 1) (As := [rv g v40, .int (iI a3)]) (rest := []) C E rfl dX22_lives_44 (mx1_passes (cx_l X) g v33 v40 a3) (lw_meth q1324) q125 q1419 q1323 qs35 hyx_X1_passes rfl hR (Nat.le_of_ble_eq_true rfl) (by decide) rfl rfl (Nat.zero_le _) ?_
      refine gj_iinc (L' := [(4, _), (0, _), (3, _)]) C dX22_lives_47 2 rfl (by decide) rfl ?_
      refine gj_goto (tgt := 25) C dX22_lives_50 (by decide) ?_
      exact gj_to [1, 2, 0] (hb25 (a4 + 1)) rfl
  unfold x22_lives
  refine gx_aload_n C dX22_lives_0 0 rfl ?_
  refine gx_gRs (O := "BorrowedLives$Looker") (nm := "this$0") (ds := "LBorrowedLives;") (fin := true) C E dX22_lives_1 (by decide +kernel) (Or.inl q1274) (fun _ h => h) (fun v1 => ?_)
  refine gx_gR (O := "BorrowedLives") (nm := "week") (ds := "LBorrowedLives$State;") (fin := true) C E dX22_lives_4 (by decide +kernel) (Or.inr ⟨_, q385⟩) (fun _ h => h) (fun v4 => ?_)
  refine gx_aload_n C dX22_lives_7 1 rfl ?_
  refine gx_callVV (t0 := 4) (As := [rv g a1]) (rest := []) C E rfl dX22_lives_8 (mx4_be (cx_l X) g v4 a1) (lw_V q1417 q1307 q1308 q131 q1309) hyx_X4_be rfl hR (Nat.le_of_ble_eq_true rfl) (by decide) rfl rfl (Nat.zero_le _) ?_
  refine gx_aload_n C dX22_lives_11 0 rfl ?_
  refine gx_gRs (O := "BorrowedLives$Looker") (nm := "this$0") (ds := "LBorrowedLives;") (fin := true) C E dX22_lives_12 (by decide +kernel) (Or.inl q1274) (fun _ h => h) (fun v12 => ?_)
  refine gx_gR (O := "BorrowedLives") (nm := "week") (ds := "LBorrowedLives$State;") (fin := true) C E dX22_lives_15 (by decide +kernel) (Or.inr ⟨_, q385⟩) (fun _ h => h) (fun v15 => ?_)
  refine gx_aload_n C dX22_lives_18 2 rfl ?_
  refine gx_callVV (t0 := 4) (As := [rv g a2]) (rest := []) C E rfl dX22_lives_19 (mx4_goes (cx_l X) g v15 a2) (lw_V q1418 q1314 q1315 q131 q1316) hyx_X4_goes rfl hR (Nat.le_of_ble_eq_true rfl) (by decide) rfl rfl (Nat.zero_le _) ?_
  refine gj_iconst C dX22_lives_22 ?_
  refine gj_istore (L' := [(4, _), (0, _), (1, _), (2, _), (3, _)]) C dX22_lives_23 (by decide) rfl ?_
  exact gj_to [1, 4, 0] (J25 a0 a3 0) rfl
def x4_harmOfAll_b4 (a0 : Option Nat) (a1 a2 : Int) (bk4 : (Int × Int) → PT Hp Int) : PT Hp Int :=
  pite (w32 a2 < 6) (
    pbnd (xrecv a0 4) fun _ =>
    pbnd (x4_harmOf a0 a2) fun v13 =>
    plet (a1 + v13) fun x17 =>
    bk4 (x17, a2 + 1)) (
    pret a1)
def x4_harmOfAll_l4 (a0 : Option Nat) (a1 a2 : Int) : PT Hp Int :=
  ploop (fun (s : (Int × Int)) bk4 => x4_harmOfAll_b4 a0 s.1 s.2 bk4) (a1, a2)
def x4_harmOfAll (a0 : Option Nat) : PT Hp Int :=
  x4_harmOfAll_l4 a0 0 0
set_option maxHeartbeats 4000000 in
set_option maxRecDepth 100000 in
theorem mx4_harmOfAll (l : Launch) (g : XG) (a0 : Option Nat) : XMet l g yX4_harmOfAll cX4_harmOfAll 3 (Option.some Jvm.ClassFile.FieldType.int) (2) [rv g a0] (x4_harmOfAll a0) rvI := by
  refine gx_start (by decide +kernel) (by have e := lg_sl_len [rv g a0]; simp only [List.map_cons, List.map_nil, List.sum_cons, List.sum_nil, rv_cat, cat_int, cat_long] at e; omega) (fun X Q σ0 hl C E hQ hR hr hnm => ?_)
  subst hl
  rw [show lv_args 0 [rv g a0] = [(0, rv g a0)] from by simp [lv_args, rv_cat, cat_int, cat_long]]
  show GJ X 3 (xWo g σ0 (cx_s X).heap) Q (x4_harmOfAll a0) 0 [(0, rv g a0)] []
  have J4 : ∀ (a0 : Option Nat) (a1 a2 : Int), GJ X 3 (xWo g σ0 (cx_s X).heap) Q (x4_harmOfAll_l4 a0 a1 a2) 4 [(0, rv g a0), (1, .int (iI a1)), (2, .int (iI a2))] [] := by
    intro a0 a1 a2
    unfold x4_harmOfAll_l4
    refine gj_loop (fun (s : (Int × Int)) => [(0, rv g a0), (1, .int (iI (s.1))), (2, .int (iI (s.2)))]) (a1, a2) (fun bk4 hb4 s => ?_)
    obtain ⟨a1, a2⟩ := s
    show GJ X 3 (xWo g σ0 (cx_s X).heap) Q (x4_harmOfAll_b4 a0 a1 a2 bk4) 4 [(0, rv g a0), (1, .int (iI a1)), (2, .int (iI a2))] []
    unfold x4_harmOfAll_b4
    refine gj_iload_n C dX4_harmOfAll_4 2 rfl ?_
    refine gj_bipush C dX4_harmOfAll_5 rfl ?_
    refine gj_icmp_ge (tgt := 24) (b' := 6) C dX4_harmOfAll_7 (by decide) rfl (by decide) (fun h7 => gj_neg h7 ?_) (fun h7 => gj_pos h7 ?_)
    · refine gj_iload_n C dX4_harmOfAll_24 1 rfl ?_
      exact gx_iret C hQ hr dX4_harmOfAll_25
    · refine gj_iload_n C dX4_harmOfAll_10 1 rfl ?_
      refine gx_aload_n C dX4_harmOfAll_11 0 rfl ?_
      refine gj_iload_n C dX4_harmOfAll_12 2 rfl ?_
      refine gx_callVI (t0 := 4) (As := [.int (iI a2)]) (rest := [.int (iI a1)]) C E rfl dX4_harmOfAll_13 (mx4_harmOf (cx_l X) g a0 a2) (lw_V q1424 q1229 q1230 q131 q1231) hyx_X4_harmOf rfl hR (Nat.le_of_ble_eq_true rfl) (by decide) rfl rfl (Nat.le_of_ble_eq_true rfl) (fun v13 => ?_)
      refine gj_iadd C dX4_harmOfAll_16 ?_
      refine gj_let (fun x17 => ?_)
      refine gj_istore_n (L' := [(1, .int (iI x17)), (0, rv g a0), (2, .int (iI a2))]) C dX4_harmOfAll_17 (by decide) (by simp [List.filter, rv_cat, cat_int, cat_long, fin4_3]) ?_
      refine gj_iinc (L' := [(2, _), (1, _), (0, _)]) C dX4_harmOfAll_18 2 rfl (by decide) rfl ?_
      refine gj_goto (tgt := 4) C dX4_harmOfAll_21 (by decide) ?_
      exact gj_to [2, 1, 0] (hb4 (x17, a2 + 1)) rfl
  unfold x4_harmOfAll
  refine gj_iconst C dX4_harmOfAll_0 ?_
  refine gj_istore_n (L' := [(1, .int (iI 0)), (0, rv g a0)]) C dX4_harmOfAll_1 (by decide) (by simp [List.filter, rv_cat, cat_int, cat_long, fin4_3]) ?_
  refine gj_iconst C dX4_harmOfAll_2 ?_
  refine gj_istore_n (L' := [(2, _), (1, _), (0, _)]) C dX4_harmOfAll_3 (by decide) rfl ?_
  exact gj_to [2, 1, 0] (J4 a0 0 0) rfl
def x25_sees_j50 (a0 a1 : Option Nat) (a2 : Int) : PT Hp Unit :=
  pbnd (xpI a0 21 3 a2) fun _ =>
  pbnd (xgR a0 21 2) fun v57 =>
  pbnd (x1_copies a1 v57) fun _ =>
  pret ()
def x25_sees (a0 a1 : Option Nat) : PT Hp Unit :=
  pbnd (xgR a0 21 4) fun v2 =>
  pbnd (xgR v2 1 4) fun v5 =>
  pbnd (xgR a0 21 4) fun v10 =>
  pbnd (xgR v10 1 2) fun v13 =>
  pbnd (xrecv v13 3) fun _ =>
  pbnd (x3_sign v13) fun v16 =>
  pbnd (xrecv a0 21) fun _ =>
  pbnd (x22_lives a0 v5 a1 v16) fun _ =>
  pbnd (xgR a0 21 4) fun v23 =>
  pbnd (xgR v23 1 6) fun v26 =>
  pbnd (xrecv v26 4) fun _ =>
  pbnd (x4_harmOfAll v26) fun v29 =>
  pbnd (xgI a0 21 0) fun v34 =>
  pite (1 < w32 v34) (
    pbnd (xgI a0 21 3) fun v43 =>
    pite (w32 v29 < w32 v43) (
      x25_sees_j50 a0 a1 v29) (
      pret ())) (
    x25_sees_j50 a0 a1 v29)
set_option maxHeartbeats 4000000 in
set_option maxRecDepth 100000 in
theorem mx25_sees (l : Launch) (g : XG) (a0 a1 : Option Nat) : XMet l g yX25_sees cX25_sees 3 (Option.none : Option Jvm.ClassFile.FieldType) (705) [rv g a0, rv g a1] (x25_sees a0 a1) rvV := by
  refine gx_start (by decide +kernel) (by have e := lg_sl_len [rv g a0, rv g a1]; simp only [List.map_cons, List.map_nil, List.sum_cons, List.sum_nil, rv_cat, cat_int, cat_long] at e; omega) (fun X Q σ0 hl C E hQ hR hr hnm => ?_)
  subst hl
  rw [show lv_args 0 [rv g a0, rv g a1] = [(0, rv g a0), (1, rv g a1)] from by simp [lv_args, rv_cat, cat_int, cat_long]]
  show GJ X 3 (xWo g σ0 (cx_s X).heap) Q (x25_sees a0 a1) 0 [(0, rv g a0), (1, rv g a1)] []
  have J50 : ∀ (a0 a1 : Option Nat) (a2 : Int), GJ X 3 (xWo g σ0 (cx_s X).heap) Q (x25_sees_j50 a0 a1 a2) 50 [(0, rv g a0), (1, rv g a1), (2, .int (iI a2))] [] := by
    intro a0 a1 a2
    unfold x25_sees_j50
    refine gx_aload_n C dX25_sees_50 0 rfl ?_
    refine gj_iload_n C dX25_sees_51 2 rfl ?_
    refine gx_pI (O := "BorrowedLives$Least") (nm := "harm") (ds := "I") (fin := false) (ty := .int) C E dX25_sees_52 (by decide +kernel) (Or.inl q1560) (fun _ h => h) (fun h => by cases h) (by decide +kernel) (inty_int _) ?_
    refine gx_aload_n C dX25_sees_55 1 rfl ?_
    refine gx_aload_n C dX25_sees_56 0 rfl ?_
    refine gx_gR (O := "BorrowedLives$Least") (nm := "best") (ds := "[I") (fin := true) C E dX25_sees_57 (by decide +kernel) (Or.inl q1558) (fun _ h => h) (fun v57 => ?_)
    refine gx_callSNV (As := [rv g a1, rv g v57]) (rest := []) C E dX25_sees_60 (mx1_copies (cx_l X) g a1 v57) (lw_meth q1312) q125 q1434 q1311 hyx_X1_copies hR (Nat.le_of_ble_eq_true rfl) (by decide) rfl rfl (Nat.zero_le _) ?_
    exact gx_vret C hQ hr dX25_sees_63
  unfold x25_sees
  refine gx_aload_n C dX25_sees_0 0 rfl ?_
  refine gx_aload_n C dX25_sees_1 0 rfl ?_
  refine gx_gR (O := "BorrowedLives$Least") (nm := "this$0") (ds := "LBorrowedLives;") (fin := true) C E dX25_sees_2 (by decide +kernel) (Or.inl q1562) (fun _ h => h) (fun v2 => ?_)
  refine gx_gR (O := "BorrowedLives") (nm := "state") (ds := "LBorrowedLives$State;") (fin := true) C E dX25_sees_5 (by decide +kernel) (Or.inr ⟨_, q379⟩) (fun _ h => h) (fun v5 => ?_)
  refine gx_aload_n C dX25_sees_8 1 rfl ?_
  refine gx_aload_n C dX25_sees_9 0 rfl ?_
  refine gx_gR (O := "BorrowedLives$Least") (nm := "this$0") (ds := "LBorrowedLives;") (fin := true) C E dX25_sees_10 (by decide +kernel) (Or.inl q1562) (fun _ h => h) (fun v10 => ?_)
  refine gx_gR (O := "BorrowedLives") (nm := "town") (ds := "LBorrowedLives$Town;") (fin := false) C E dX25_sees_13 (by decide +kernel) (Or.inr ⟨_, q375⟩) (fun _ h => h) (fun v13 => ?_)
  refine gx_callVI (t0 := 3) (As := []) (rest := [rv g a1, rv g v5, rv g a0]) C E rfl dX25_sees_16 (mx3_sign (cx_l X) g v13) (lw_V q1429 q1318 q1319 q127 q1320) hyx_X3_sign rfl hR (Nat.le_of_ble_eq_true rfl) (by decide) rfl rfl (by simp only [List.map_cons, List.map_nil, List.sum_cons, List.sum_nil, rv_cat, cat_int, cat_long]; decide) (fun v16 => ?_)
  refine gx_callHV (x := ⟨"BorrowedLives$Least", "lives", "(LBorrowedLives$State;[II)V"⟩) (owner := "BorrowedLives$Looker") (t0 := 21) (As := [rv g v5, rv g a1, .int (iI v16)]) (rest := []) C E rfl dX25_sees_19 (mx22_lives (cx_l X) g a0 v5 a1 v16) q1430 q1431 q1432 q1415 q164 q1416 rfl hy9_X22_lives_X25 hR (Nat.le_of_ble_eq_true rfl) (by decide) rfl rfl (Nat.zero_le _) ?_
  refine gx_aload_n C dX25_sees_22 0 rfl ?_
  refine gx_gR (O := "BorrowedLives$Least") (nm := "this$0") (ds := "LBorrowedLives;") (fin := true) C E dX25_sees_23 (by decide +kernel) (Or.inl q1562) (fun _ h => h) (fun v23 => ?_)
  refine gx_gR (O := "BorrowedLives") (nm := "week") (ds := "LBorrowedLives$State;") (fin := true) C E dX25_sees_26 (by decide +kernel) (Or.inr ⟨_, q383⟩) (fun _ h => h) (fun v26 => ?_)
  refine gx_callVI (t0 := 4) (As := []) (rest := []) C E rfl dX25_sees_29 (mx4_harmOfAll (cx_l X) g v26) (lw_V q1433 q1421 q1422 q131 q1423) hyx_X4_harmOfAll rfl hR (Nat.le_of_ble_eq_true rfl) (by decide) rfl rfl (Nat.zero_le _) (fun v29 => ?_)
  refine gj_istore_n (L' := [(2, .int (iI v29)), (0, rv g a0), (1, rv g a1)]) C dX25_sees_32 (by decide) (by simp [List.filter, rv_cat, cat_int, cat_long, fin4_3]) ?_
  refine gx_aload_n C dX25_sees_33 1 rfl ?_
  refine gx_gI (O := "BorrowedLives$Looker") (nm := "lots") (ds := "I") (fin := false) C E dX25_sees_34 (by decide +kernel) (Or.inl q1266) (fun x h => u_same (C.2.2.2.2.2 _ q1267) x h) (fun v34 => ?_)
  refine gj_iconst C dX25_sees_37 ?_
  refine gj_icmp_le (tgt := 50) (b' := 1) C dX25_sees_38 (by decide) rfl (by decide) (fun h38 => gj_neg h38 ?_) (fun h38 => gj_pos h38 ?_)
  · exact gj_to [1, 2, 0] (J50 a0 a1 v29) rfl
  · refine gj_iload_n C dX25_sees_41 0 rfl ?_
    refine gx_aload_n C dX25_sees_42 1 rfl ?_
    refine gx_gI (O := "BorrowedLives$Least") (nm := "harm") (ds := "I") (fin := false) C E dX25_sees_43 (by decide +kernel) (Or.inl q1560) (fun _ h => h) (fun v43 => ?_)
    refine gj_icmp_lt (tgt := 50) C dX25_sees_46 (by decide) rfl rfl (fun h46 => gj_pos h46 ?_) (fun h46 => gj_neg h46 ?_)
    · exact gj_to [1, 2, 0] (J50 a0 a1 v29) rfl
    · exact gx_vret C hQ hr dX25_sees_49
def x26_sees_j57 (s0 : Option Nat) (s1 s2 : Int) : PT Hp Unit :=
  pbnd (xpI s0 22 4 (s1 + s2)) fun _ =>
  pret ()
def x26_sees (a0 a1 : Option Nat) : PT Hp Unit :=
  pbnd (xgR a0 22 5) fun v2 =>
  pbnd (xgR v2 1 5) fun v5 =>
  pbnd (xgI a0 22 3) fun v10 =>
  pbnd (xrecv a0 22) fun _ =>
  pbnd (x22_lives a0 v5 a1 v10) fun _ =>
  pbnd (xgI a0 22 4) fun v18 =>
  pbnd (xgI a0 22 2) fun v22 =>
  pite (w32 v22 < 0) (
    pbnd (xgR a0 22 5) fun v29 =>
    pbnd (xgR v29 1 6) fun v32 =>
    pbnd (xrecv v32 4) fun _ =>
    pbnd (x4_harmOfAll v32) fun v35 =>
    x26_sees_j57 a0 v18 (zi2l v35)) (
    pbnd (xgR a0 22 5) fun v43 =>
    pbnd (xgR v43 1 6) fun v46 =>
    pbnd (xgI a0 22 2) fun v50 =>
    pbnd (xrecv v46 4) fun _ =>
    pbnd (x4_harmOf v46 v50) fun v53 =>
    x26_sees_j57 a0 v18 (zi2l v53))
set_option maxHeartbeats 4000000 in
set_option maxRecDepth 100000 in
theorem mx26_sees (l : Launch) (g : XG) (a0 a1 : Option Nat) : XMet l g yX26_sees cX26_sees 2 (Option.none : Option Jvm.ClassFile.FieldType) (705) [rv g a0, rv g a1] (x26_sees a0 a1) rvV := by
  refine gx_start (by decide +kernel) (by have e := lg_sl_len [rv g a0, rv g a1]; simp only [List.map_cons, List.map_nil, List.sum_cons, List.sum_nil, rv_cat, cat_int, cat_long] at e; omega) (fun X Q σ0 hl C E hQ hR hr hnm => ?_)
  subst hl
  rw [show lv_args 0 [rv g a0, rv g a1] = [(0, rv g a0), (1, rv g a1)] from by simp [lv_args, rv_cat, cat_int, cat_long]]
  show GJ X 2 (xWo g σ0 (cx_s X).heap) Q (x26_sees a0 a1) 0 [(0, rv g a0), (1, rv g a1)] []
  have J57 : ∀ (s0 : Option Nat) (s1 s2 : Int), GJ X 2 (xWo g σ0 (cx_s X).heap) Q (x26_sees_j57 s0 s1 s2) 57 [] [.long (iL s2), .long (iL s1), rv g s0] := by
    intro s0 s1 s2
    unfold x26_sees_j57
    refine gj_ladd C dX26_sees_57 ?_
    refine gx_pL (O := "BorrowedLives$Harms") (nm := "harm") (ds := "J") (fin := false) C E dX26_sees_58 (by decide +kernel) (Or.inl q1584) (fun _ h => h) (fun h => by cases h) (by decide +kernel) ?_
    exact gx_vret C hQ hr dX26_sees_61
  unfold x26_sees
  refine gx_aload_n C dX26_sees_0 0 rfl ?_
  refine gx_aload_n C dX26_sees_1 0 rfl ?_
  refine gx_gR (O := "BorrowedLives$Harms") (nm := "this$0") (ds := "LBorrowedLives;") (fin := true) C E dX26_sees_2 (by decide +kernel) (Or.inl q1586) (fun _ h => h) (fun v2 => ?_)
  refine gx_gR (O := "BorrowedLives") (nm := "trial") (ds := "LBorrowedLives$State;") (fin := true) C E dX26_sees_5 (by decide +kernel) (Or.inr ⟨_, q381⟩) (fun _ h => h) (fun v5 => ?_)
  refine gx_aload_n C dX26_sees_8 1 rfl ?_
  refine gx_aload_n C dX26_sees_9 0 rfl ?_
  refine gx_gI (O := "BorrowedLives$Harms") (nm := "sign") (ds := "I") (fin := true) C E dX26_sees_10 (by decide +kernel) (Or.inl q1583) (fun _ h => h) (fun v10 => ?_)
  refine gx_callHV (x := ⟨"BorrowedLives$Harms", "lives", "(LBorrowedLives$State;[II)V"⟩) (owner := "BorrowedLives$Looker") (t0 := 22) (As := [rv g v5, rv g a1, .int (iI v10)]) (rest := []) C E rfl dX26_sees_13 (mx22_lives (cx_l X) g a0 v5 a1 v10) q1411 q1412 q1414 q1415 q164 q1416 rfl hy9_X22_lives_X26 hR (Nat.le_of_ble_eq_true rfl) (by decide) rfl rfl (Nat.zero_le _) ?_
  refine gx_aload_n C dX26_sees_16 0 rfl ?_
  refine gx_dup C dX26_sees_17 ?_
  refine gx_gL (O := "BorrowedLives$Harms") (nm := "harm") (ds := "J") (fin := false) C E dX26_sees_18 (by decide +kernel) (Or.inl q1584) (fun _ h => h) (fun v18 => ?_)
  refine gx_aload_n C dX26_sees_21 0 rfl ?_
  refine gx_gI (O := "BorrowedLives$Harms") (nm := "life") (ds := "I") (fin := true) C E dX26_sees_22 (by decide +kernel) (Or.inl q1582) (fun _ h => h) (fun v22 => ?_)
  refine gj_if_ge (tgt := 42) C dX26_sees_25 (by decide) (fun h25 => gj_neg h25 ?_) (fun h25 => gj_pos h25 ?_)
  · refine gx_aload_n C dX26_sees_42 0 rfl ?_
    refine gx_gR (O := "BorrowedLives$Harms") (nm := "this$0") (ds := "LBorrowedLives;") (fin := true) C E dX26_sees_43 (by decide +kernel) (Or.inl q1586) (fun _ h => h) (fun v43 => ?_)
    refine gx_gR (O := "BorrowedLives") (nm := "week") (ds := "LBorrowedLives$State;") (fin := true) C E dX26_sees_46 (by decide +kernel) (Or.inr ⟨_, q384⟩) (fun _ h => h) (fun v46 => ?_)
    refine gx_aload_n C dX26_sees_49 0 rfl ?_
    refine gx_gI (O := "BorrowedLives$Harms") (nm := "life") (ds := "I") (fin := true) C E dX26_sees_50 (by decide +kernel) (Or.inl q1582) (fun _ h => h) (fun v50 => ?_)
    refine gx_callVI (t0 := 4) (As := [.int (iI v50)]) (rest := [.long (iL v18), rv g a0]) C E rfl dX26_sees_53 (mx4_harmOf (cx_l X) g v46 v50) (lw_V q1425 q1229 q1230 q131 q1231) hyx_X4_harmOf rfl hR (Nat.le_of_ble_eq_true rfl) (by decide) rfl rfl (by simp only [List.map_cons, List.map_nil, List.sum_cons, List.sum_nil, rv_cat, cat_int, cat_long]; decide) (fun v53 => ?_)
    refine gj_i2l C dX26_sees_56 ?_
    exact gj_to [] (J57 a0 v18 (zi2l v53)) rfl
  · refine gx_aload_n C dX26_sees_28 0 rfl ?_
    refine gx_gR (O := "BorrowedLives$Harms") (nm := "this$0") (ds := "LBorrowedLives;") (fin := true) C E dX26_sees_29 (by decide +kernel) (Or.inl q1586) (fun _ h => h) (fun v29 => ?_)
    refine gx_gR (O := "BorrowedLives") (nm := "week") (ds := "LBorrowedLives$State;") (fin := true) C E dX26_sees_32 (by decide +kernel) (Or.inr ⟨_, q384⟩) (fun _ h => h) (fun v32 => ?_)
    refine gx_callVI (t0 := 4) (As := []) (rest := [.long (iL v18), rv g a0]) C E rfl dX26_sees_35 (mx4_harmOfAll (cx_l X) g v32) (lw_V q1420 q1421 q1422 q131 q1423) hyx_X4_harmOfAll rfl hR (Nat.le_of_ble_eq_true rfl) (by decide) rfl rfl (by simp only [List.map_cons, List.map_nil, List.sum_cons, List.sum_nil, rv_cat, cat_int, cat_long]; decide) (fun v35 => ?_)
    refine gj_i2l C dX26_sees_38 ?_
    refine gj_goto (tgt := 57) C dX26_sees_39 (by decide) ?_
    exact gj_to [] (J57 a0 v18 (zi2l v35)) rfl
def x1_fits_b66 (a0 : Option Nat) (a2 : Int) (bk66 : (Int) → PT Hp Int) : PT Hp Int :=
  pbnd (xgI a0 1 19) fun v68 =>
  pite (w32 a2 < w32 v68) (
    pbnd (xgR a0 1 20) fun v75 =>
    pbnd (xgR a0 1 17) fun v79 =>
    pbnd (xld v79 40 a2) fun v83 =>
    pbnd (xldR v75 47 v83) fun v84 =>
    pbnd (xgR a0 1 16) fun v86 =>
    pbnd (xld v86 40 a2) fun v90 =>
    pbnd (xld v84 40 v90) fun v91 =>
    pbnd (xgR a0 1 18) fun v93 =>
    pbnd (xld v93 40 a2) fun v97 =>
    pite (w32 v91 = w32 v97) (
      bk66 (a2 + 1)) (
      pbnd (pzo 0) fun _ => pret 0)) (
    pbnd (pzo 1) fun _ => pret 1)
def x1_fits_l66 (a0 : Option Nat) (a2 : Int) : PT Hp Int :=
  ploop (fun (s : (Int)) bk66 => x1_fits_b66 a0 s bk66) (a2)
def x1_fits_b21 (a0 : Option Nat) (a2 : Int) (bk21 : (Int) → PT Hp Int) : PT Hp Int :=
  pite (7 < w32 a2) (
    x1_fits_l66 a0 0) (
    pbnd (xgR a0 1 6) fun v29 =>
    pbnd (xgR a0 1 2) fun v33 =>
    pbnd (xrecv v33 3) fun _ =>
    pbnd (x3_sign v33) fun v36 =>
    pbnd (xrecv a0 1) fun _ =>
    pbnd (x1_passes a0 v29 v36) fun _ =>
    pbnd (xgR a0 1 6) fun v43 =>
    pbnd (xgR v43 4 0) fun v46 =>
    pbnd (xgR a0 1 20) fun v50 =>
    pbnd (xldR v50 47 a2) fun v54 =>
    pbnd (x1_copies v46 v54) fun _ =>
    bk21 (a2 + 1))
def x1_fits_l21 (a0 : Option Nat) (a2 : Int) : PT Hp Int :=
  ploop (fun (s : (Int)) bk21 => x1_fits_b21 a0 s bk21) (a2)
def x1_fits (a0 a1 : Option Nat) : PT Hp Int :=
  pbnd (xgR a0 1 6) fun v1 =>
  pbnd (xgR a0 1 4) fun v5 =>
  pbnd (xrecv v1 4) fun _ =>
  pbnd (x4_be v1 v5) fun _ =>
  pbnd (xgR a0 1 6) fun v12 =>
  pbnd (xrecv v12 4) fun _ =>
  pbnd (x4_goes v12 a1) fun _ =>
  x1_fits_l21 a0 1
set_option maxHeartbeats 4000000 in
set_option maxRecDepth 100000 in
theorem mx1_fits (l : Launch) (g : XG) (a0 a1 : Option Nat) : XMet l g yX1_fits cX1_fits 3 (Option.some Jvm.ClassFile.FieldType.boolean) (704) [rv g a0, rv g a1] (x1_fits a0 a1) rvI := by
  refine gx_start (by decide +kernel) (by have e := lg_sl_len [rv g a0, rv g a1]; simp only [List.map_cons, List.map_nil, List.sum_cons, List.sum_nil, rv_cat, cat_int, cat_long] at e; omega) (fun X Q σ0 hl C E hQ hR hr hnm => ?_)
  subst hl
  rw [show lv_args 0 [rv g a0, rv g a1] = [(0, rv g a0), (1, rv g a1)] from by simp [lv_args, rv_cat, cat_int, cat_long]]
  show GJ X 3 (xWo g σ0 (cx_s X).heap) Q (x1_fits a0 a1) 0 [(0, rv g a0), (1, rv g a1)] []
  have J66 : ∀ (a0 : Option Nat) (a2 : Int), GJ X 3 (xWo g σ0 (cx_s X).heap) Q (x1_fits_l66 a0 a2) 66 [(0, rv g a0), (2, .int (iI a2))] [] := by
    intro a0 a2
    unfold x1_fits_l66
    refine gj_loop (fun (s : (Int)) => [(0, rv g a0), (2, .int (iI s))]) (a2) (fun bk66 hb66 s => ?_)
    obtain ⟨a2, rfl⟩ : ∃ z, z = s := ⟨s, rfl⟩
    show GJ X 3 (xWo g σ0 (cx_s X).heap) Q (x1_fits_b66 a0 a2 bk66) 66 [(0, rv g a0), (2, .int (iI a2))] []
    unfold x1_fits_b66
    refine gj_iload_n C dX1_fits_66 1 rfl ?_
    refine gx_aload_n C dX1_fits_67 0 rfl ?_
    refine gx_gI (O := "BorrowedLives") (nm := "tales") (ds := "I") (fin := false) C E dX1_fits_68 (by decide +kernel) (Or.inl q400) (fun _ h => h) (fun v68 => ?_)
    refine gj_icmp_ge (tgt := 109) C dX1_fits_71 (by decide) rfl rfl (fun h71 => gj_neg h71 ?_) (fun h71 => gj_pos h71 ?_)
    · refine gj_iconst C dX1_fits_109 ?_
      exact gx_zret C hQ hr dX1_fits_110
    · refine gx_aload_n C dX1_fits_74 0 rfl ?_
      refine gx_gR (O := "BorrowedLives") (nm := "held") (ds := "[[I") (fin := true) C E dX1_fits_75 (by decide +kernel) (Or.inl q402) (fun _ h => h) (fun v75 => ?_)
      refine gx_aload_n C dX1_fits_78 0 rfl ?_
      refine gx_gR (O := "BorrowedLives") (nm := "taleDay") (ds := "[I") (fin := true) C E dX1_fits_79 (by decide +kernel) (Or.inl q398) (fun _ h => h) (fun v79 => ?_)
      refine gj_iload_n C dX1_fits_82 1 rfl ?_
      refine gx_iald C E dX1_fits_83 (fun v83 => ?_)
      refine gx_aald (t0 := 7) C E dX1_fits_84 (by decide) (by decide) rfl rfl (fun v84 => ?_)
      refine gx_aload_n C dX1_fits_85 0 rfl ?_
      refine gx_gR (O := "BorrowedLives") (nm := "taleLife") (ds := "[I") (fin := true) C E dX1_fits_86 (by decide +kernel) (Or.inl q397) (fun _ h => h) (fun v86 => ?_)
      refine gj_iload_n C dX1_fits_89 1 rfl ?_
      refine gx_iald C E dX1_fits_90 (fun v90 => ?_)
      refine gx_iald C E dX1_fits_91 (fun v91 => ?_)
      refine gx_aload_n C dX1_fits_92 0 rfl ?_
      refine gx_gR (O := "BorrowedLives") (nm := "talePurse") (ds := "[I") (fin := true) C E dX1_fits_93 (by decide +kernel) (Or.inl q399) (fun _ h => h) (fun v93 => ?_)
      refine gj_iload_n C dX1_fits_96 1 rfl ?_
      refine gx_iald C E dX1_fits_97 (fun v97 => ?_)
      refine gj_icmp_eq (tgt := 103) C dX1_fits_98 (by decide) rfl rfl (fun h98 => gj_pos h98 ?_) (fun h98 => gj_neg h98 ?_)
      · refine gj_iinc (L' := [(2, _), (0, _)]) C dX1_fits_103 1 rfl (by decide) rfl ?_
        refine gj_goto (tgt := 66) C dX1_fits_106 (by decide) ?_
        exact gj_to [1, 0] (hb66 (a2 + 1)) rfl
      · refine gj_iconst C dX1_fits_101 ?_
        exact gx_zret C hQ hr dX1_fits_102
  have J21 : ∀ (a0 : Option Nat) (a2 : Int), GJ X 3 (xWo g σ0 (cx_s X).heap) Q (x1_fits_l21 a0 a2) 21 [(0, rv g a0), (2, .int (iI a2))] [] := by
    intro a0 a2
    unfold x1_fits_l21
    refine gj_loop (fun (s : (Int)) => [(0, rv g a0), (2, .int (iI s))]) (a2) (fun bk21 hb21 s => ?_)
    obtain ⟨a2, rfl⟩ : ∃ z, z = s := ⟨s, rfl⟩
    show GJ X 3 (xWo g σ0 (cx_s X).heap) Q (x1_fits_b21 a0 a2 bk21) 21 [(0, rv g a0), (2, .int (iI a2))] []
    unfold x1_fits_b21
    refine gj_iload_n C dX1_fits_21 1 rfl ?_
    refine gj_bipush C dX1_fits_22 rfl ?_
    refine gj_icmp_gt (tgt := 64) (b' := 7) C dX1_fits_24 (by decide) rfl (by decide) (fun h24 => gj_pos h24 ?_) (fun h24 => gj_neg h24 ?_)
    · refine gj_iconst C dX1_fits_64 ?_
      refine gj_istore_n (L' := [(2, _), (0, _)]) C dX1_fits_65 (by decide) rfl ?_
      exact gj_to [1, 0] (J66 a0 0) rfl
    · refine gx_aload_n C dX1_fits_27 0 rfl ?_
      refine gx_aload_n C dX1_fits_28 0 rfl ?_
      refine gx_gR (O := "BorrowedLives") (nm := "week") (ds := "LBorrowedLives$State;") (fin := true) C E dX1_fits_29 (by decide +kernel) (Or.inl q386) (fun _ h => h) (fun v29 => ?_)
      refine gx_aload_n C dX1_fits_32 0 rfl ?_
      refine gx_gR (O := "BorrowedLives") (nm := "town") (ds := "LBorrowedLives$Town;") (fin := false) C E dX1_fits_33 (by decide +kernel) (Or.inl q377) (fun _ h => h) (fun v33 => ?_)
      refine gx_callVI (t0 := 3) (As := []) (rest := [rv g v29, rv g a0]) C E rfl dX1_fits_36 (mx3_sign (cx_l X) g v33) (lw_V q1317 q1318 q1319 q127 q1320) hyx_X3_sign rfl hR (Nat.le_of_ble_eq_true rfl) (by decide) rfl rfl (by simp only [List.map_cons, List.map_nil, List.sum_cons, List.sum_nil, rv_cat, cat_int, cat_long]; decide) (fun v36 => ?_)
      refine gx_callVV (t0 := 1) (As := [rv g v29, .int (iI v36)]) (rest := []) C E rfl dX1_fits_39 (mx1_passes (cx_l X) g a0 v29 v36) (lw_V q1321 q1323 qs35 q125 q1324) hyx_X1_passes rfl hR (Nat.le_of_ble_eq_true rfl) (by decide) rfl rfl (Nat.zero_le _) ?_
      refine gx_aload_n C dX1_fits_42 0 rfl ?_
      refine gx_gR (O := "BorrowedLives") (nm := "week") (ds := "LBorrowedLives$State;") (fin := true) C E dX1_fits_43 (by decide +kernel) (Or.inl q386) (fun _ h => h) (fun v43 => ?_)
      refine gx_gR (O := "BorrowedLives$State") (nm := "purse") (ds := "[I") (fin := true) C E dX1_fits_46 (by decide +kernel) (Or.inr ⟨_, q292⟩) (fun _ h => h) (fun v46 => ?_)
      refine gx_aload_n C dX1_fits_49 0 rfl ?_
      refine gx_gR (O := "BorrowedLives") (nm := "held") (ds := "[[I") (fin := true) C E dX1_fits_50 (by decide +kernel) (Or.inl q402) (fun _ h => h) (fun v50 => ?_)
      refine gj_iload_n C dX1_fits_53 1 rfl ?_
      refine gx_aald (t0 := 7) C E dX1_fits_54 (by decide) (by decide) rfl rfl (fun v54 => ?_)
      refine gx_callSV (As := [rv g v46, rv g v54]) (rest := []) C E dX1_fits_55 (mx1_copies (cx_l X) g v46 v54) (lw_S q1398 q1311 q125 q1312) hyx_X1_copies hR (Nat.le_of_ble_eq_true rfl) (by decide) rfl rfl (Nat.zero_le _) ?_
      refine gj_iinc (L' := [(2, _), (0, _)]) C dX1_fits_58 1 rfl (by decide) rfl ?_
      refine gj_goto (tgt := 21) C dX1_fits_61 (by decide) ?_
      exact gj_to [1, 0] (hb21 (a2 + 1)) rfl
  unfold x1_fits
  refine gx_aload_n C dX1_fits_0 0 rfl ?_
  refine gx_gR (O := "BorrowedLives") (nm := "week") (ds := "LBorrowedLives$State;") (fin := true) C E dX1_fits_1 (by decide +kernel) (Or.inl q386) (fun _ h => h) (fun v1 => ?_)
  refine gx_aload_n C dX1_fits_4 0 rfl ?_
  refine gx_gR (O := "BorrowedLives") (nm := "state") (ds := "LBorrowedLives$State;") (fin := true) C E dX1_fits_5 (by decide +kernel) (Or.inl q380) (fun _ h => h) (fun v5 => ?_)
  refine gx_callVV (t0 := 4) (As := [rv g v5]) (rest := []) C E rfl dX1_fits_8 (mx4_be (cx_l X) g v1 v5) (lw_V q1306 q1307 q1308 q131 q1309) hyx_X4_be rfl hR (Nat.le_of_ble_eq_true rfl) (by decide) rfl rfl (Nat.zero_le _) ?_
  refine gx_aload_n C dX1_fits_11 0 rfl ?_
  refine gx_gR (O := "BorrowedLives") (nm := "week") (ds := "LBorrowedLives$State;") (fin := true) C E dX1_fits_12 (by decide +kernel) (Or.inl q386) (fun _ h => h) (fun v12 => ?_)
  refine gx_aload_n C dX1_fits_15 1 rfl ?_
  refine gx_callVV (t0 := 4) (As := [rv g a1]) (rest := []) C E rfl dX1_fits_16 (mx4_goes (cx_l X) g v12 a1) (lw_V q1313 q1314 q1315 q131 q1316) hyx_X4_goes rfl hR (Nat.le_of_ble_eq_true rfl) (by decide) rfl rfl (Nat.zero_le _) ?_
  refine gj_iconst C dX1_fits_19 ?_
  refine gj_istore_n (L' := [(2, .int (iI 1)), (0, rv g a0), (1, rv g a1)]) C dX1_fits_20 (by decide) (by simp [List.filter, rv_cat, cat_int, cat_long, fin4_3]) ?_
  exact gj_to [1, 0] (J21 a0 1) rfl
