/-! THE COMPONENT: its methods as pure programs, and that the machine runs so (X2.town, X1.town, X16.init, X17.init, X18.init, X19.init, X20.init, X2.other, X21.init, X2.told, X2.year, X1.year, X4.lifeOf, X1.person, X4.harmOf, X4.goodOf, X1.life, X1.mayBe, X1.may, X22.init, X23.init, X23.sees, X24.sees, X3.sign, X4.goes, X7.findsHidden, X9.findsHidden, X1.between, X7.spends, X8.spends, X10.paysDebts, X7.paysDebts, X1.poorest): printed by genx.py -/
def x2_town_j74 (a0 : Option Nat) (a1 : Int) (bk11 : Unit → XT Hp (Option Nat)) : XT Hp (Option Nat) :=
  pbnd (xrecv a0 2) fun _ =>
  pbnd (x2_next a0) fun _ =>
  pbnd (xrecv a0 2) fun _ =>
  xbnd (x2_line a0 a1) fun _ =>
  pbnd (xrecv a0 2) fun _ =>
  xbnd (x2_need_2 a0 59) fun _ =>
  bk11 ()
def x2_town_b11 (a0 : Option Nat) (bk11 : Unit → XT Hp (Option Nat)) : XT Hp (Option Nat) :=
  pbnd (xgI a0 2 3) fun v12 =>
  pite (w32 v12 = 0) (
    pbnd (xgR a0 2 7) fun v93 =>
    xret v93) (
    pbnd (xrecv a0 2) fun _ =>
    pbnd (x2_which a0 (some (CB + 1))) fun v21 =>
    pite (w32 v21 < 0) (
      pbnd (xrecv a0 2) fun _ =>
      pbnd (x2_wrong a0 1) fun v31 =>
      xthrow v31) (
      pbnd (xrecv a0 2) fun _ =>
      pbnd (x2_isTold a0 v21) fun v37 =>
      pite (w32 v37 = 0) (
        pite (w32 v21 = 0) (
          pbnd (xgR a0 2 7) fun v54 =>
          pbnd (xgR v54 3 0) fun v57 =>
          pbnd (xrecv v57 26) fun _ =>
          pbnd (j2_size v57) fun v60 =>
          pite (w32 v60 = 6) (
            pbnd (xrecv a0 2) fun _ =>
            pbnd (x2_wrong a0 5) fun v70 =>
            xthrow v70) (
            x2_town_j74 a0 v21 bk11)) (
          x2_town_j74 a0 v21 bk11)) (
        pbnd (xrecv a0 2) fun _ =>
        pbnd (x2_wrong a0 3) fun v45 =>
        xthrow v45)))
def x2_town_l11 (a0 : Option Nat) : XT Hp (Option Nat) :=
  ploop (fun (s : Unit) bk11 => x2_town_b11 a0 bk11) ()
def x2_town (a0 : Option Nat) : XT Hp (Option Nat) :=
  pbnd (xnew 3) fun v1 =>
  pbnd (xnn v1) fun _ =>
  pbnd (x3_init v1) fun _ =>
  pbnd (xpR a0 2 7 v1) fun _ =>
  x2_town_l11 a0
set_option maxHeartbeats 4000000 in
set_option maxRecDepth 100000 in
theorem mx2_town (l : Launch) (g : XG) (a0 : Option Nat) : XMetX l g RX6 yX2_town cX2_town 2 (Option.some (Jvm.ClassFile.FieldType.object "BorrowedLives$Town")) (147) [rv g a0] (x2_town a0) (rvR g) := by
  refine gy_start (by decide +kernel) (by have e := lg_sl_len [rv g a0]; simp only [List.map_cons, List.map_nil, List.sum_cons, List.sum_nil, rv_cat, cat_int, cat_long] at e; omega) (fun X Q σ0 hl C E hQ hR hr hX => ?_)
  subst hl
  rw [show lv_args 0 [rv g a0] = [(0, rv g a0)] from by simp [lv_args, rv_cat, cat_int, cat_long]]
  show GJ X 2 (xWo g σ0 (cx_s X).heap) Q (x2_town a0) 0 [(0, rv g a0)] []
  have J11 : ∀ (a0 : Option Nat), GJ X 2 (xWo g σ0 (cx_s X).heap) Q (x2_town_l11 a0) 11 [(0, rv g a0)] [] := by
    intro a0
    unfold x2_town_l11
    refine gj_loop (fun (s : Unit) => [(0, rv g a0)]) () (fun bk11 hb11 s => ?_)
    show GJ X 2 (xWo g σ0 (cx_s X).heap) Q (x2_town_b11 a0 bk11) 11 [(0, rv g a0)] []
    have J74 : ∀ (a1 : Int), GJ X 2 (xWo g σ0 (cx_s X).heap) Q (x2_town_j74 a0 a1 bk11) 74 [(0, rv g a0), (1, .int (iI a1))] [] := by
      intro a1
      unfold x2_town_j74
      refine gx_aload_n C dX2_town_74 0 rfl ?_
      refine gx_callVV (t0 := 2) (As := []) (rest := []) C E rfl dX2_town_75 (mx2_next (cx_l X) g a0) (lw_V q470 q472 qs1 q126 q473) hyx_X2_next rfl hR (Nat.le_of_ble_eq_true rfl) (by decide) rfl rfl (Nat.zero_le _) ?_
      refine gx_aload_n C dX2_town_78 0 rfl ?_
      refine gj_iload_n C dX2_town_79 1 rfl ?_
      refine gy_callVV (t0 := 2) (As := [.int (iI a1)]) (rest := []) C E hX hQ rfl dX2_town_80 (mx2_line (cx_l X) g a0 a1) (lw_V q680 q682 qs7 q126 q683) hyx_X2_line rfl hR (Nat.le_of_ble_eq_true rfl) (by decide) rfl rfl (Nat.zero_le _) ?_
      refine gx_aload_n C dX2_town_83 0 rfl ?_
      refine gj_bipush C dX2_town_84 rfl ?_
      refine gy_callVV (t0 := 2) (As := [.int (iI 59)]) (rest := []) C E hX hQ rfl dX2_town_86 (mx2_need_2 (cx_l X) g a0 59) (lw_V q1090 q1092 qs25 q126 q1093) hyx_X2_need_2 rfl hR (Nat.le_of_ble_eq_true rfl) (by decide) rfl rfl (Nat.zero_le _) ?_
      refine gj_goto (tgt := 11) C dX2_town_89 (by decide) ?_
      exact gj_to [0] (hb11 ()) rfl
    unfold x2_town_b11
    refine gx_aload_n C dX2_town_11 0 rfl ?_
    refine gx_gI (O := "BorrowedLives$Reader") (nm := "kind") (ds := "I") (fin := false) C E dX2_town_12 (by decide +kernel) (Or.inl q191) (fun _ h => h) (fun v12 => ?_)
    refine gj_if_eq (tgt := 92) C dX2_town_15 (by decide) (fun h15 => gj_pos h15 ?_) (fun h15 => gj_neg h15 ?_)
    · refine gx_aload_n C dX2_town_92 0 rfl ?_
      refine gx_gR (O := "BorrowedLives$Reader") (nm := "town") (ds := "LBorrowedLives$Town;") (fin := false) C E dX2_town_93 (by decide +kernel) (Or.inl q195) (fun _ h => h) (fun v93 => ?_)
      exact gy_aret C hQ hr (Or.inl ⟨_, rfl⟩) dX2_town_96
    · refine gx_aload_n C dX2_town_18 0 rfl ?_
      refine gx_ldcS C E 1 (by decide) rfl dX2_town_19 ?_
      refine gx_callVI (t0 := 2) (As := [rv g ((some (CB + 1)))]) (rest := []) C E rfl dX2_town_21 (mx2_which (cx_l X) g a0 (some (CB + 1))) (lw_V q578 q580 qs3 q126 q581) hyx_X2_which rfl hR (Nat.le_of_ble_eq_true rfl) (by decide) rfl rfl (Nat.zero_le _) (fun v21 => ?_)
      refine gj_istore_n (L' := [(1, .int (iI v21)), (0, rv g a0)]) C dX2_town_24 (by decide) (by simp [List.filter, rv_cat, cat_int, cat_long, fin4_3]) ?_
      refine gj_iload_n C dX2_town_25 0 rfl ?_
      refine gj_if_ge (tgt := 35) C dX2_town_26 (by decide) (fun h26 => gj_neg h26 ?_) (fun h26 => gj_pos h26 ?_)
      · refine gx_aload_n C dX2_town_35 1 rfl ?_
        refine gj_iload_n C dX2_town_36 0 rfl ?_
        refine gx_callVI (t0 := 2) (As := [.int (iI v21)]) (rest := []) C E rfl dX2_town_37 (mx2_isTold (cx_l X) g a0 v21) (lw_V q675 q677 qs6 q126 q678) hyx_X2_isTold rfl hR (Nat.le_of_ble_eq_true rfl) (by decide) rfl rfl (Nat.zero_le _) (fun v37 => ?_)
        refine gj_if_eq (tgt := 49) C dX2_town_40 (by decide) (fun h40 => gj_pos h40 ?_) (fun h40 => gj_neg h40 ?_)
        · refine gj_iload_n C dX2_town_49 0 rfl ?_
          refine gj_if_ne (tgt := 74) C dX2_town_50 (by decide) (fun h50 => gj_neg h50 ?_) (fun h50 => gj_pos h50 ?_)
          · exact gj_to [1, 0] (J74 v21) rfl
          · refine gx_aload_n C dX2_town_53 1 rfl ?_
            refine gx_gR (O := "BorrowedLives$Reader") (nm := "town") (ds := "LBorrowedLives$Town;") (fin := false) C E dX2_town_54 (by decide +kernel) (Or.inl q195) (fun _ h => h) (fun v54 => ?_)
            refine gx_gR (O := "BorrowedLives$Town") (nm := "people") (ds := "Ljava/util/ArrayList;") (fin := true) C E dX2_town_57 (by decide +kernel) (Or.inr ⟨_, q254⟩) (fun _ h => h) (fun v57 => ?_)
            refine gx_callVI (t0 := 26) (As := []) (rest := []) C E rfl dX2_town_60 (mj2_size (cx_l X) g v57) (lw_V q679 q351 q352 q130 q353) hyx_J2_size rfl hR (Nat.le_of_ble_eq_true rfl) (by decide) rfl rfl (Nat.zero_le _) (fun v60 => ?_)
            refine gj_bipush C dX2_town_63 rfl ?_
            refine gj_icmp_ne (tgt := 74) (b' := 6) C dX2_town_65 (by decide) rfl (by decide) (fun h65 => gj_neg h65 ?_) (fun h65 => gj_pos h65 ?_)
            · exact gj_to [1, 0] (J74 v21) rfl
            · refine gx_aload_n C dX2_town_68 1 rfl ?_
              refine gj_iconst C dX2_town_69 ?_
              refine gx_callVR (t0 := 2) (As := [.int (iI 5)]) (rest := []) C E rfl dX2_town_70 (mx2_wrong (cx_l X) g a0 5) (lw_V q602 q604 qs4 q126 q605) hyx_X2_wrong rfl hR (Nat.le_of_ble_eq_true rfl) (by decide) rfl rfl (Nat.zero_le _) (fun v70 => ?_)
              exact gy_athrow C E hX hQ dX2_town_73
        · refine gx_aload_n C dX2_town_43 1 rfl ?_
          refine gj_iconst C dX2_town_44 ?_
          refine gx_callVR (t0 := 2) (As := [.int (iI 3)]) (rest := []) C E rfl dX2_town_45 (mx2_wrong (cx_l X) g a0 3) (lw_V q602 q604 qs4 q126 q605) hyx_X2_wrong rfl hR (Nat.le_of_ble_eq_true rfl) (by decide) rfl rfl (Nat.zero_le _) (fun v45 => ?_)
          exact gy_athrow C E hX hQ dX2_town_48
      · refine gx_aload_n C dX2_town_29 1 rfl ?_
        refine gj_iconst C dX2_town_30 ?_
        refine gx_callVR (t0 := 2) (As := [.int (iI 1)]) (rest := []) C E rfl dX2_town_31 (mx2_wrong (cx_l X) g a0 1) (lw_V q602 q604 qs4 q126 q605) hyx_X2_wrong rfl hR (Nat.le_of_ble_eq_true rfl) (by decide) rfl rfl (Nat.zero_le _) (fun v31 => ?_)
        exact gy_athrow C E hX hQ dX2_town_34
  unfold x2_town
  refine gx_aload_n C dX2_town_0 0 rfl ?_
  refine gx_new (t0 := 3) C E dX2_town_1 rfl q575 q218 q127 (fun v1 => ?_)
  refine gx_dup C dX2_town_4 ?_
  refine gx_callINV (As := []) (rest := [rv g v1, rv g a0]) C E dX2_town_5 (mx3_init (cx_l X) g v1) (lw_meth q221) q127 q576 q220 rfl hyx_X3_init hR (Nat.le_of_ble_eq_true rfl) (by decide) rfl rfl (by simp only [List.map_cons, List.map_nil, List.sum_cons, List.sum_nil, rv_cat, cat_int, cat_long]; decide) ?_
  refine gx_pR (O := "BorrowedLives$Reader") (nm := "town") (ds := "LBorrowedLives$Town;") (fin := false) (ty := (.object "BorrowedLives$Town")) C E dX2_town_8 (by decide +kernel) (Or.inl q195) (fun _ h => h) (fun h => by cases h) (by decide +kernel) (by decide) ?_
  exact gj_to [0] (J11 a0) rfl
def x1_town_b59 (a0 : Option Nat) (a1 : Int) (bk59 : (Int) → PT Hp Int) : PT Hp Int :=
  pite (w32 a1 < 4) (
    pbnd (xgR a0 1 22) fun v65 =>
    pbnd (xstR v65 46 a1 none) fun _ =>
    bk59 (a1 + 1)) (
    pret 0)
def x1_town_l59 (a0 : Option Nat) (a1 : Int) : PT Hp Int :=
  ploop (fun (s : (Int)) bk59 => x1_town_b59 a0 s bk59) (a1)
def x1_town (a0 : Option Nat) : PT Hp Int :=
  pbnd (xrecv a0 1) fun _ =>
  pbnd (x1_reads a0) fun _ =>
  pbnd (xgR a0 1 1) fun v6 =>
  pbnd (xrecv v6 2) fun _ =>
  xtry (x2_town v6) (fun q9 =>
    pbnd (xgI ((some q9)) 5 6) fun v20 =>
    pret v20
    ) fun v9 =>
  pbnd (xpR a0 1 2 v9) fun _ =>
  pbnd (xgR a0 1 4) fun v25 =>
  pbnd (xgR a0 1 2) fun v29 =>
  pbnd (xrecv v25 4) fun _ =>
  pbnd (x4_begin v25 v29) fun _ =>
  pbnd (xnew 26) fun v36 =>
  pbnd (xnn v36) fun _ =>
  pbnd (j2_init v36 0) fun _ =>
  pbnd (xpR a0 1 3 v36) fun _ =>
  pbnd (xpI a0 1 19 0) fun _ =>
  pbnd (xpI a0 1 11 0) fun _ =>
  x1_town_l59 a0 0
set_option maxHeartbeats 4000000 in
set_option maxRecDepth 100000 in
theorem mx1_town (l : Launch) (g : XG) (a0 : Option Nat) : XMetW l g yX1_town cX1_town 2 (Option.some Jvm.ClassFile.FieldType.int) [((4 : Nat), (15 : Nat), (18 : Nat), (118 : Nat))] (148) [rv g a0] (x1_town a0) rvI := by
  refine gx_startW (by decide +kernel) (by have e := lg_sl_len [rv g a0]; simp only [List.map_cons, List.map_nil, List.sum_cons, List.sum_nil, rv_cat, cat_int, cat_long] at e; omega) (fun X Q σ0 hl C E hQ hR hr hTab => ?_)
  subst hl
  rw [show lv_args 0 [rv g a0] = [(0, rv g a0)] from by simp [lv_args, rv_cat, cat_int, cat_long]]
  show GJ X 2 (xWo g σ0 (cx_s X).heap) Q (x1_town a0) 0 [(0, rv g a0)] []
  have J59 : ∀ (a0 : Option Nat) (a1 : Int), GJ X 2 (xWo g σ0 (cx_s X).heap) Q (x1_town_l59 a0 a1) 59 [(0, rv g a0), (1, .int (iI a1))] [] := by
    intro a0 a1
    unfold x1_town_l59
    refine gj_loop (fun (s : (Int)) => [(0, rv g a0), (1, .int (iI s))]) (a1) (fun bk59 hb59 s => ?_)
    obtain ⟨a1, rfl⟩ : ∃ z, z = s := ⟨s, rfl⟩
    show GJ X 2 (xWo g σ0 (cx_s X).heap) Q (x1_town_b59 a0 a1 bk59) 59 [(0, rv g a0), (1, .int (iI a1))] []
    unfold x1_town_b59
    refine gj_iload_n C dX1_town_59 1 rfl ?_
    refine gj_iconst C dX1_town_60 ?_
    refine gj_icmp_ge (tgt := 77) (b' := 4) C dX1_town_61 (by decide) rfl (by decide) (fun h61 => gj_neg h61 ?_) (fun h61 => gj_pos h61 ?_)
    · refine gj_iconst C dX1_town_77 ?_
      exact gx_iret C hQ hr dX1_town_78
    · refine gx_aload_n C dX1_town_64 0 rfl ?_
      refine gx_gR (O := "BorrowedLives") (nm := "marks") (ds := "[LBorrowedLives$Mark;") (fin := true) C E dX1_town_65 (by decide +kernel) (Or.inl q405) (fun _ h => h) (fun v65 => ?_)
      refine gj_iload_n C dX1_town_68 1 rfl ?_
      refine gx_null C dX1_town_69 ?_
      refine gx_aast (t0 := 6) C E dX1_town_70 (by decide) (by decide) rfl xcast46 xelt46 ?_
      refine gj_iinc (L' := [(1, .int (iI ((a1 + 1)))), (0, rv g a0)]) C dX1_town_71 1 rfl (by decide) (by simp [List.filter, rv_cat, cat_int, cat_long, fin4_3]) ?_
      refine gj_goto (tgt := 59) C dX1_town_74 (by decide) ?_
      exact gj_to [1, 0] (hb59 (a1 + 1)) rfl
  unfold x1_town
  refine gx_aload_n C dX1_town_0 0 rfl ?_
  refine gx_callVV (t0 := 1) (As := []) (rest := []) C E rfl dX1_town_1 (mx1_reads (cx_l X) g a0) (lw_V q462 q464 qs0 q125 q465) hyx_X1_reads rfl hR (Nat.le_of_ble_eq_true rfl) (by decide) rfl rfl (Nat.zero_le _) ?_
  refine gx_aload_n C dX1_town_4 0 rfl ?_
  refine gx_aload_n C dX1_town_5 0 rfl ?_
  refine gx_gR (O := "BorrowedLives") (nm := "reader") (ds := "LBorrowedLives$Reader;") (fin := true) C E dX1_town_6 (by decide +kernel) (Or.inl q374) (fun _ h => h) (fun v6 => ?_)
  refine gy_tryVR (t0 := 2) (As := []) (rest := [rv g a0]) C E rfl dX1_town_9 (mx2_town (cx_l X) g v6) (lw_V q571 q572 q573 q126 q574) hyx_X2_town rfl hR (Nat.le_of_ble_eq_true rfl) (by decide) rfl rfl (by simp only [List.map_cons, List.map_nil, List.sum_cons, List.sum_nil, rv_cat, cat_int, cat_long]; decide) (gy_caught C E hTab (by decide) (by decide) q461 q608 (fun q9 => ?_)) (fun v9 => ?_)
  · refine gx_astore_n (L' := [(1, rv g ((some q9))), (0, rv g a0)]) C dX1_town_18 (by decide) (by simp [List.filter, rv_cat, cat_int, cat_long, fin4_3]) ?_
    refine gx_aload_n C dX1_town_19 0 rfl ?_
    refine gx_gI (O := "BorrowedLives$Wrong") (nm := "fault") (ds := "I") (fin := true) C E dX1_town_20 (by decide +kernel) (Or.inr ⟨_, q659⟩) (fun _ h => h) (fun v20 => ?_)
    exact gx_iret C hQ hr dX1_town_23
  refine gx_pR (O := "BorrowedLives") (nm := "town") (ds := "LBorrowedLives$Town;") (fin := false) (ty := (.object "BorrowedLives$Town")) C E dX1_town_12 (by decide +kernel) (Or.inl q377) (fun _ h => h) (fun h => by cases h) (by decide +kernel) (by decide) ?_
  refine gj_goto (tgt := 24) C dX1_town_15 (by decide) ?_
  refine gx_aload_n C dX1_town_24 0 rfl ?_
  refine gx_gR (O := "BorrowedLives") (nm := "state") (ds := "LBorrowedLives$State;") (fin := true) C E dX1_town_25 (by decide +kernel) (Or.inl q380) (fun _ h => h) (fun v25 => ?_)
  refine gx_aload_n C dX1_town_28 0 rfl ?_
  refine gx_gR (O := "BorrowedLives") (nm := "town") (ds := "LBorrowedLives$Town;") (fin := false) C E dX1_town_29 (by decide +kernel) (Or.inl q377) (fun _ h => h) (fun v29 => ?_)
  refine gx_callVV (t0 := 4) (As := [rv g v29]) (rest := []) C E rfl dX1_town_32 (mx4_begin (cx_l X) g v25 v29) (lw_V q346 q347 q348 q131 q349) hyx_X4_begin rfl hR (Nat.le_of_ble_eq_true rfl) (by decide) rfl rfl (Nat.zero_le _) ?_
  refine gx_aload_n C dX1_town_35 0 rfl ?_
  refine gx_new (t0 := 26) C E dX1_town_36 rfl q282 q224 q130 (fun v36 => ?_)
  refine gx_dup C dX1_town_39 ?_
  refine gj_iconst C dX1_town_40 ?_
  refine gx_callIV (As := [.int (iI 0)]) (rest := [rv g v36, rv g a0]) C E dX1_town_41 (mj2_init (cx_l X) g v36 0) (lw_meth q227) q130 q283 q226 rfl hyx_J2_init hR (Nat.le_of_ble_eq_true rfl) (by decide) rfl rfl (by simp only [List.map_cons, List.map_nil, List.sum_cons, List.sum_nil, rv_cat, cat_int, cat_long]; decide) ?_
  refine gx_pR (O := "BorrowedLives") (nm := "lines") (ds := "Ljava/util/ArrayList;") (fin := false) (ty := (.object "java/util/ArrayList")) C E dX1_town_44 (by decide +kernel) (Or.inl q378) (fun _ h => h) (fun h => by cases h) (by decide +kernel) (by decide) ?_
  refine gx_aload_n C dX1_town_47 0 rfl ?_
  refine gj_iconst C dX1_town_48 ?_
  refine gx_pI (O := "BorrowedLives") (nm := "tales") (ds := "I") (fin := false) (ty := .int) C E dX1_town_49 (by decide +kernel) (Or.inl q400) (fun _ h => h) (fun h => by cases h) (by decide +kernel) (inty_int _) ?_
  refine gx_aload_n C dX1_town_52 0 rfl ?_
  refine gj_iconst C dX1_town_53 ?_
  refine gx_pI (O := "BorrowedLives") (nm := "done") (ds := "I") (fin := false) (ty := .int) C E dX1_town_54 (by decide +kernel) (Or.inl q391) (fun _ h => h) (fun h => by cases h) (by decide +kernel) (inty_int _) ?_
  refine gj_iconst C dX1_town_57 ?_
  refine gj_istore_n (L' := [(1, .int (iI 0)), (0, rv g a0)]) C dX1_town_58 (by decide) (by simp [List.filter, rv_cat, cat_int, cat_long, fin4_3]) ?_
  exact gj_to [1, 0] (J59 a0 0) rfl
def x16_init (a0 : Option Nat) : PT Hp Unit :=
  pbnd (xnn a0) fun _ =>
  pret ()
set_option maxHeartbeats 4000000 in
set_option maxRecDepth 100000 in
theorem mx16_init (l : Launch) (g : XG) (a0 : Option Nat) : XMet l g yX16_init cX16_init 1 (Option.none : Option Jvm.ClassFile.FieldType) (1) [rv g a0] (x16_init a0) rvV := by
  refine gx_start (by decide +kernel) (by have e := lg_sl_len [rv g a0]; simp only [List.map_cons, List.map_nil, List.sum_cons, List.sum_nil, rv_cat, cat_int, cat_long] at e; omega) (fun X Q σ0 hl C E hQ hR hr hnm => ?_)
  subst hl
  rw [show lv_args 0 [rv g a0] = [(0, rv g a0)] from by simp [lv_args, rv_cat, cat_int, cat_long]]
  show GJ X 1 (xWo g σ0 (cx_s X).heap) Q (x16_init a0) 0 [(0, rv g a0)] []
  unfold x16_init
  refine gx_aload_n C dX16_init_0 0 rfl ?_
  refine gx_objinit C E dX16_init_1 q1135 q180 q181 hR (Nat.le_of_ble_eq_true rfl) (Nat.zero_le _) ?_
  exact gx_vret C hQ hr dX16_init_4
def x17_init (a0 : Option Nat) (a1 : Int) : PT Hp Unit :=
  pbnd (xnn a0) fun _ =>
  pbnd (x16_init a0) fun _ =>
  pbnd (xpI a0 14 0 (w32 a1)) fun _ =>
  pret ()
set_option maxHeartbeats 4000000 in
set_option maxRecDepth 100000 in
theorem mx17_init (l : Launch) (g : XG) (a0 : Option Nat) (a1 : Int) : XMet l g yX17_init cX17_init 2 (Option.none : Option Jvm.ClassFile.FieldType) (2) [rv g a0, .int (iI a1)] (x17_init a0 a1) rvV := by
  refine gx_start (by decide +kernel) (by have e := lg_sl_len [rv g a0, .int (iI a1)]; simp only [List.map_cons, List.map_nil, List.sum_cons, List.sum_nil, rv_cat, cat_int, cat_long] at e; omega) (fun X Q σ0 hl C E hQ hR hr hnm => ?_)
  subst hl
  rw [show lv_args 0 [rv g a0, .int (iI a1)] = [(0, rv g a0), (1, .int (iI a1))] from by simp [lv_args, rv_cat, cat_int, cat_long]]
  show GJ X 2 (xWo g σ0 (cx_s X).heap) Q (x17_init a0 a1) 0 [(0, rv g a0), (1, .int (iI a1))] []
  unfold x17_init
  refine gx_aload_n C dX17_init_0 0 rfl ?_
  refine gx_callINV (As := []) (rest := []) C E dX17_init_1 (mx16_init (cx_l X) g a0) (lw_meth q1134) q158 q1132 q1133 rfl hyx_X16_init hR (Nat.le_of_ble_eq_true rfl) (by decide) rfl rfl (Nat.zero_le _) ?_
  refine gx_aload_n C dX17_init_4 0 rfl ?_
  refine gj_iload_n C dX17_init_5 1 rfl ?_
  refine gj_nrmI ?_
  refine gx_pI (O := "BorrowedLives$Drawn") (nm := "seed") (ds := "I") (fin := true) (ty := .int) C E dX17_init_6 (by decide +kernel) (Or.inl q1136) (fun _ h => h) (fun _ => ⟨hnm, rfl⟩) (by decide +kernel) (inty_int _) ?_
  exact gx_vret C hQ hr dX17_init_9
def x18_init (a0 : Option Nat) : PT Hp Unit :=
  pbnd (xnn a0) fun _ =>
  pbnd (x16_init a0) fun _ =>
  pret ()
set_option maxHeartbeats 4000000 in
set_option maxRecDepth 100000 in
theorem mx18_init (l : Launch) (g : XG) (a0 : Option Nat) : XMet l g yX18_init cX18_init 1 (Option.none : Option Jvm.ClassFile.FieldType) (2) [rv g a0] (x18_init a0) rvV := by
  refine gx_start (by decide +kernel) (by have e := lg_sl_len [rv g a0]; simp only [List.map_cons, List.map_nil, List.sum_cons, List.sum_nil, rv_cat, cat_int, cat_long] at e; omega) (fun X Q σ0 hl C E hQ hR hr hnm => ?_)
  subst hl
  rw [show lv_args 0 [rv g a0] = [(0, rv g a0)] from by simp [lv_args, rv_cat, cat_int, cat_long]]
  show GJ X 1 (xWo g σ0 (cx_s X).heap) Q (x18_init a0) 0 [(0, rv g a0)] []
  unfold x18_init
  refine gx_aload_n C dX18_init_0 0 rfl ?_
  refine gx_callINV (As := []) (rest := []) C E dX18_init_1 (mx16_init (cx_l X) g a0) (lw_meth q1134) q158 q1145 q1133 rfl hyx_X16_init hR (Nat.le_of_ble_eq_true rfl) (by decide) rfl rfl (Nat.zero_le _) ?_
  exact gx_vret C hQ hr dX18_init_4
def x19_init (a0 : Option Nat) : PT Hp Unit :=
  pbnd (xnn a0) fun _ =>
  pbnd (x16_init a0) fun _ =>
  pret ()
set_option maxHeartbeats 4000000 in
set_option maxRecDepth 100000 in
theorem mx19_init (l : Launch) (g : XG) (a0 : Option Nat) : XMet l g yX19_init cX19_init 1 (Option.none : Option Jvm.ClassFile.FieldType) (2) [rv g a0] (x19_init a0) rvV := by
  refine gx_start (by decide +kernel) (by have e := lg_sl_len [rv g a0]; simp only [List.map_cons, List.map_nil, List.sum_cons, List.sum_nil, rv_cat, cat_int, cat_long] at e; omega) (fun X Q σ0 hl C E hQ hR hr hnm => ?_)
  subst hl
  rw [show lv_args 0 [rv g a0] = [(0, rv g a0)] from by simp [lv_args, rv_cat, cat_int, cat_long]]
  show GJ X 1 (xWo g σ0 (cx_s X).heap) Q (x19_init a0) 0 [(0, rv g a0)] []
  unfold x19_init
  refine gx_aload_n C dX19_init_0 0 rfl ?_
  refine gx_callINV (As := []) (rest := []) C E dX19_init_1 (mx16_init (cx_l X) g a0) (lw_meth q1134) q158 q1152 q1133 rfl hyx_X16_init hR (Nat.le_of_ble_eq_true rfl) (by decide) rfl rfl (Nat.zero_le _) ?_
  exact gx_vret C hQ hr dX19_init_4
def x20_init (a0 : Option Nat) (a1 a2 : Int) : PT Hp Unit :=
  pbnd (xnn a0) fun _ =>
  pbnd (x16_init a0) fun _ =>
  pbnd (xpI a0 17 0 (w32 a1)) fun _ =>
  pbnd (xpI a0 17 1 (w32 a2)) fun _ =>
  pret ()
set_option maxHeartbeats 4000000 in
set_option maxRecDepth 100000 in
theorem mx20_init (l : Launch) (g : XG) (a0 : Option Nat) (a1 a2 : Int) : XMet l g yX20_init cX20_init 3 (Option.none : Option Jvm.ClassFile.FieldType) (2) [rv g a0, .int (iI a1), .int (iI a2)] (x20_init a0 a1 a2) rvV := by
  refine gx_start (by decide +kernel) (by have e := lg_sl_len [rv g a0, .int (iI a1), .int (iI a2)]; simp only [List.map_cons, List.map_nil, List.sum_cons, List.sum_nil, rv_cat, cat_int, cat_long] at e; omega) (fun X Q σ0 hl C E hQ hR hr hnm => ?_)
  subst hl
  rw [show lv_args 0 [rv g a0, .int (iI a1), .int (iI a2)] = [(0, rv g a0), (1, .int (iI a1)), (2, .int (iI a2))] from by simp [lv_args, rv_cat, cat_int, cat_long]]
  show GJ X 3 (xWo g σ0 (cx_s X).heap) Q (x20_init a0 a1 a2) 0 [(0, rv g a0), (1, .int (iI a1)), (2, .int (iI a2))] []
  unfold x20_init
  refine gx_aload_n C dX20_init_0 0 rfl ?_
  refine gx_callINV (As := []) (rest := []) C E dX20_init_1 (mx16_init (cx_l X) g a0) (lw_meth q1134) q158 q1159 q1133 rfl hyx_X16_init hR (Nat.le_of_ble_eq_true rfl) (by decide) rfl rfl (Nat.zero_le _) ?_
  refine gx_aload_n C dX20_init_4 0 rfl ?_
  refine gj_iload_n C dX20_init_5 1 rfl ?_
  refine gj_nrmI ?_
  refine gx_pI (O := "BorrowedLives$Hidden") (nm := "life") (ds := "I") (fin := true) (ty := .int) C E dX20_init_6 (by decide +kernel) (Or.inl q1160) (fun _ h => h) (fun _ => ⟨hnm, rfl⟩) (by decide +kernel) (inty_int _) ?_
  refine gx_aload_n C dX20_init_9 0 rfl ?_
  refine gj_iload_n C dX20_init_10 2 rfl ?_
  refine gj_nrmI ?_
  refine gx_pI (O := "BorrowedLives$Hidden") (nm := "coins") (ds := "I") (fin := true) (ty := .int) C E dX20_init_11 (by decide +kernel) (Or.inl q1161) (fun _ h => h) (fun _ => ⟨hnm, rfl⟩) (by decide +kernel) (inty_int _) ?_
  exact gx_vret C hQ hr dX20_init_14
def x2_other (a0 : Option Nat) (a1 : Int) : XT Hp Int :=
  pbnd (xrecv a0 2) fun _ =>
  xbnd (x2_person a0) fun v1 =>
  pite (w32 v1 = w32 a1) (
    pbnd (xrecv a0 2) fun _ =>
    pbnd (x2_wrong a0 3) fun v12 =>
    xthrow v12) (
    pbnd (xrecv a0 2) fun _ =>
    pbnd (x2_next a0) fun _ =>
    xret v1)
set_option maxHeartbeats 4000000 in
set_option maxRecDepth 100000 in
theorem mx2_other (l : Launch) (g : XG) (a0 : Option Nat) (a1 : Int) : XMetX l g RX6 yX2_other cX2_other 3 (Option.some Jvm.ClassFile.FieldType.int) (8) [rv g a0, .int (iI a1)] (x2_other a0 a1) rvI := by
  refine gy_start (by decide +kernel) (by have e := lg_sl_len [rv g a0, .int (iI a1)]; simp only [List.map_cons, List.map_nil, List.sum_cons, List.sum_nil, rv_cat, cat_int, cat_long] at e; omega) (fun X Q σ0 hl C E hQ hR hr hX => ?_)
  subst hl
  rw [show lv_args 0 [rv g a0, .int (iI a1)] = [(0, rv g a0), (1, .int (iI a1))] from by simp [lv_args, rv_cat, cat_int, cat_long]]
  show GJ X 3 (xWo g σ0 (cx_s X).heap) Q (x2_other a0 a1) 0 [(0, rv g a0), (1, .int (iI a1))] []
  unfold x2_other
  refine gx_aload_n C dX2_other_0 0 rfl ?_
  refine gy_callVI (t0 := 2) (As := []) (rest := []) C E hX hQ rfl dX2_other_1 (mx2_person (cx_l X) g a0) (lw_V q1019 q1021 qs17 q126 q1022) hyx_X2_person rfl hR (Nat.le_of_ble_eq_true rfl) (by decide) rfl rfl (Nat.zero_le _) (fun v1 => ?_)
  refine gj_istore_n (L' := [(2, _), (0, _), (1, _)]) C dX2_other_4 (by decide) rfl ?_
  refine gj_iload_n C dX2_other_5 0 rfl ?_
  refine gj_iload_n C dX2_other_6 2 rfl ?_
  refine gj_icmp_ne (tgt := 16) C dX2_other_7 (by decide) rfl rfl (fun h7 => gj_neg h7 ?_) (fun h7 => gj_pos h7 ?_)
  · refine gx_aload_n C dX2_other_16 1 rfl ?_
    refine gx_callVV (t0 := 2) (As := []) (rest := []) C E rfl dX2_other_17 (mx2_next (cx_l X) g a0) (lw_V q470 q472 qs1 q126 q473) hyx_X2_next rfl hR (Nat.le_of_ble_eq_true rfl) (by decide) rfl rfl (Nat.zero_le _) ?_
    refine gj_iload_n C dX2_other_20 0 rfl ?_
    exact gy_iret C hQ hr dX2_other_21
  · refine gx_aload_n C dX2_other_10 1 rfl ?_
    refine gj_iconst C dX2_other_11 ?_
    refine gx_callVR (t0 := 2) (As := [.int (iI 3)]) (rest := []) C E rfl dX2_other_12 (mx2_wrong (cx_l X) g a0 3) (lw_V q602 q604 qs4 q126 q605) hyx_X2_wrong rfl hR (Nat.le_of_ble_eq_true rfl) (by decide) rfl rfl (Nat.zero_le _) (fun v12 => ?_)
    exact gy_athrow C E hX hQ dX2_other_15
def x21_init (a0 : Option Nat) (a1 a2 : Int) : PT Hp Unit :=
  pbnd (xnn a0) fun _ =>
  pbnd (x16_init a0) fun _ =>
  pbnd (xpI a0 18 0 (w32 a1)) fun _ =>
  pbnd (xpI a0 18 1 (w32 a2)) fun _ =>
  pret ()
set_option maxHeartbeats 4000000 in
set_option maxRecDepth 100000 in
theorem mx21_init (l : Launch) (g : XG) (a0 : Option Nat) (a1 a2 : Int) : XMet l g yX21_init cX21_init 3 (Option.none : Option Jvm.ClassFile.FieldType) (2) [rv g a0, .int (iI a1), .int (iI a2)] (x21_init a0 a1 a2) rvV := by
  refine gx_start (by decide +kernel) (by have e := lg_sl_len [rv g a0, .int (iI a1), .int (iI a2)]; simp only [List.map_cons, List.map_nil, List.sum_cons, List.sum_nil, rv_cat, cat_int, cat_long] at e; omega) (fun X Q σ0 hl C E hQ hR hr hnm => ?_)
  subst hl
  rw [show lv_args 0 [rv g a0, .int (iI a1), .int (iI a2)] = [(0, rv g a0), (1, .int (iI a1)), (2, .int (iI a2))] from by simp [lv_args, rv_cat, cat_int, cat_long]]
  show GJ X 3 (xWo g σ0 (cx_s X).heap) Q (x21_init a0 a1 a2) 0 [(0, rv g a0), (1, .int (iI a1)), (2, .int (iI a2))] []
  unfold x21_init
  refine gx_aload_n C dX21_init_0 0 rfl ?_
  refine gx_callINV (As := []) (rest := []) C E dX21_init_1 (mx16_init (cx_l X) g a0) (lw_meth q1134) q158 q1176 q1133 rfl hyx_X16_init hR (Nat.le_of_ble_eq_true rfl) (by decide) rfl rfl (Nat.zero_le _) ?_
  refine gx_aload_n C dX21_init_4 0 rfl ?_
  refine gj_iload_n C dX21_init_5 1 rfl ?_
  refine gj_nrmI ?_
  refine gx_pI (O := "BorrowedLives$Swapped") (nm := "one") (ds := "I") (fin := true) (ty := .int) C E dX21_init_6 (by decide +kernel) (Or.inl q1177) (fun _ h => h) (fun _ => ⟨hnm, rfl⟩) (by decide +kernel) (inty_int _) ?_
  refine gx_aload_n C dX21_init_9 0 rfl ?_
  refine gj_iload_n C dX21_init_10 2 rfl ?_
  refine gj_nrmI ?_
  refine gx_pI (O := "BorrowedLives$Swapped") (nm := "other") (ds := "I") (fin := true) (ty := .int) C E dX21_init_11 (by decide +kernel) (Or.inl q1178) (fun _ h => h) (fun _ => ⟨hnm, rfl⟩) (by decide +kernel) (inty_int _) ?_
  exact gx_vret C hQ hr dX21_init_14
def x2_told_j92 (s0 : Option Nat) : XT Hp (Option Nat) :=
  xret s0
def x2_told (a0 : Option Nat) (a1 : Int) : XT Hp (Option Nat) :=
  pite (w32 a1 = 1) (
    pbnd (xnew 14) fun v5 =>
    pbnd (xrecv a0 2) fun _ =>
    xbnd (x2_number_2 a0 0 9999) fun v14 =>
    pbnd (xnn v5) fun _ =>
    pbnd (x17_init v5 v14) fun _ =>
    xret v5) (
    pite (w32 a1 = 3) (
      pbnd (xnew 15) fun v26 =>
      pbnd (xnn v26) fun _ =>
      pbnd (x18_init v26) fun _ =>
      xret v26) (
      pite (w32 a1 = 4) (
        pbnd (xnew 16) fun v39 =>
        pbnd (xnn v39) fun _ =>
        pbnd (x19_init v39) fun _ =>
        xret v39) (
        pbnd (xrecv a0 2) fun _ =>
        xbnd (x2_person a0) fun v48 =>
        pbnd (xrecv a0 2) fun _ =>
        pbnd (x2_next a0) fun _ =>
        pite (w32 a1 = 0) (
          pbnd (xnew 17) fun v60 =>
          pbnd (xrecv a0 2) fun _ =>
          xbnd (x2_number_2 a0 0 999) fun v70 =>
          pbnd (xnn v60) fun _ =>
          pbnd (x20_init v60 v48 v70) fun _ =>
          x2_told_j92 v60) (
          pbnd (xnew 18) fun v79 =>
          pbnd (xrecv a0 2) fun _ =>
          xbnd (x2_other a0 v48) fun v86 =>
          pbnd (xnn v79) fun _ =>
          pbnd (x21_init v79 v48 v86) fun _ =>
          x2_told_j92 v79))))
set_option maxHeartbeats 4000000 in
set_option maxRecDepth 100000 in
theorem mx2_told (l : Launch) (g : XG) (a0 : Option Nat) (a1 : Int) : XMetX l g RX6 yX2_told cX2_told 3 (Option.some (Jvm.ClassFile.FieldType.object "BorrowedLives$Line")) (9) [rv g a0, .int (iI a1)] (x2_told a0 a1) (rvR g) := by
  refine gy_start (by decide +kernel) (by have e := lg_sl_len [rv g a0, .int (iI a1)]; simp only [List.map_cons, List.map_nil, List.sum_cons, List.sum_nil, rv_cat, cat_int, cat_long] at e; omega) (fun X Q σ0 hl C E hQ hR hr hX => ?_)
  subst hl
  rw [show lv_args 0 [rv g a0, .int (iI a1)] = [(0, rv g a0), (1, .int (iI a1))] from by simp [lv_args, rv_cat, cat_int, cat_long]]
  show GJ X 3 (xWo g σ0 (cx_s X).heap) Q (x2_told a0 a1) 0 [(0, rv g a0), (1, .int (iI a1))] []
  have J92 : ∀ (s0 : Option Nat), GJ X 3 (xWo g σ0 (cx_s X).heap) Q (x2_told_j92 s0) 92 [] [rv g s0] := by
    intro s0
    unfold x2_told_j92
    exact gy_aret C hQ hr (Or.inl ⟨_, rfl⟩) dX2_told_92
  unfold x2_told
  refine gj_iload_n C dX2_told_0 1 rfl ?_
  refine gj_iconst C dX2_told_1 ?_
  refine gj_icmp_ne (tgt := 21) (b' := 1) C dX2_told_2 (by decide) rfl (by decide) (fun h2 => gj_neg h2 ?_) (fun h2 => gj_pos h2 ?_)
  · refine gj_iload_n C dX2_told_21 1 rfl ?_
    refine gj_iconst C dX2_told_22 ?_
    refine gj_icmp_ne (tgt := 34) (b' := 3) C dX2_told_23 (by decide) rfl (by decide) (fun h23 => gj_neg h23 ?_) (fun h23 => gj_pos h23 ?_)
    · refine gj_iload_n C dX2_told_34 1 rfl ?_
      refine gj_iconst C dX2_told_35 ?_
      refine gj_icmp_ne (tgt := 47) (b' := 4) C dX2_told_36 (by decide) rfl (by decide) (fun h36 => gj_neg h36 ?_) (fun h36 => gj_pos h36 ?_)
      · refine gx_aload_n C dX2_told_47 0 rfl ?_
        refine gy_callVI (t0 := 2) (As := []) (rest := []) C E hX hQ rfl dX2_told_48 (mx2_person (cx_l X) g a0) (lw_V q1019 q1021 qs17 q126 q1022) hyx_X2_person rfl hR (Nat.le_of_ble_eq_true rfl) (by decide) rfl rfl (Nat.zero_le _) (fun v48 => ?_)
        refine gj_istore_n (L' := [(2, _), (0, _), (1, _)]) C dX2_told_51 (by decide) rfl ?_
        refine gx_aload_n C dX2_told_52 1 rfl ?_
        refine gx_callVV (t0 := 2) (As := []) (rest := []) C E rfl dX2_told_53 (mx2_next (cx_l X) g a0) (lw_V q470 q472 qs1 q126 q473) hyx_X2_next rfl hR (Nat.le_of_ble_eq_true rfl) (by decide) rfl rfl (Nat.zero_le _) ?_
        refine gj_iload_n C dX2_told_56 2 rfl ?_
        refine gj_if_ne (tgt := 79) C dX2_told_57 (by decide) (fun h57 => gj_neg h57 ?_) (fun h57 => gj_pos h57 ?_)
        · refine gx_new (t0 := 18) C E dX2_told_79 rfl q1167 q1168 q163 (fun v79 => ?_)
          refine gx_dup C dX2_told_82 ?_
          refine gj_iload_n C dX2_told_83 0 rfl ?_
          refine gx_aload_n C dX2_told_84 1 rfl ?_
          refine gj_iload_n C dX2_told_85 0 rfl ?_
          refine gy_callVI (t0 := 2) (As := [.int (iI v48)]) (rest := [.int (iI v48), rv g v79, rv g v79]) C E hX hQ rfl dX2_told_86 (mx2_other (cx_l X) g a0 v48) (lw_V q1169 q1171 qs27 q126 q1172) hyx_X2_other rfl hR (Nat.le_of_ble_eq_true rfl) (by decide) rfl rfl (by simp only [List.map_cons, List.map_nil, List.sum_cons, List.sum_nil, rv_cat, cat_int, cat_long]; decide) (fun v86 => ?_)
          refine gx_callIV (As := [.int (iI v48), .int (iI v86)]) (rest := [rv g v79]) C E dX2_told_89 (mx21_init (cx_l X) g v79 v48 v86) (lw_meth q1175) q163 q1173 q1174 rfl hyx_X21_init hR (Nat.le_of_ble_eq_true rfl) (by decide) rfl rfl (by simp only [List.map_cons, List.map_nil, List.sum_cons, List.sum_nil, rv_cat, cat_int, cat_long]; decide) ?_
          exact gj_to [] (J92 v79) rfl
        · refine gx_new (t0 := 17) C E dX2_told_60 rfl q1154 q1155 q162 (fun v60 => ?_)
          refine gx_dup C dX2_told_63 ?_
          refine gj_iload_n C dX2_told_64 0 rfl ?_
          refine gx_aload_n C dX2_told_65 1 rfl ?_
          refine gj_iconst C dX2_told_66 ?_
          refine gj_sipush C dX2_told_67 rfl ?_
          refine gy_callVI (t0 := 2) (As := [.int (iI 0), .int (iI 999)]) (rest := [.int (iI v48), rv g v60, rv g v60]) C E hX hQ rfl dX2_told_70 (mx2_number_2 (cx_l X) g a0 0 999) (lw_V q950 q952 qs13 q126 q953) hyx_X2_number_2 rfl hR (Nat.le_of_ble_eq_true rfl) (by decide) rfl rfl (by simp only [List.map_cons, List.map_nil, List.sum_cons, List.sum_nil, rv_cat, cat_int, cat_long]; decide) (fun v70 => ?_)
          refine gx_callIV (As := [.int (iI v48), .int (iI v70)]) (rest := [rv g v60]) C E dX2_told_73 (mx20_init (cx_l X) g v60 v48 v70) (lw_meth q1158) q162 q1156 q1157 rfl hyx_X20_init hR (Nat.le_of_ble_eq_true rfl) (by decide) rfl rfl (by simp only [List.map_cons, List.map_nil, List.sum_cons, List.sum_nil, rv_cat, cat_int, cat_long]; decide) ?_
          refine gj_goto (tgt := 92) C dX2_told_76 (by decide) ?_
          exact gj_to [] (J92 v60) rfl
      · refine gx_new (t0 := 16) C E dX2_told_39 rfl q1147 q1148 q161 (fun v39 => ?_)
        refine gx_dup C dX2_told_42 ?_
        refine gx_callINV (As := []) (rest := [rv g v39]) C E dX2_told_43 (mx19_init (cx_l X) g v39) (lw_meth q1151) q161 q1149 q1150 rfl hyx_X19_init hR (Nat.le_of_ble_eq_true rfl) (by decide) rfl rfl (by simp only [List.map_cons, List.map_nil, List.sum_cons, List.sum_nil, rv_cat, cat_int, cat_long]; decide) ?_
        exact gy_aret C hQ hr (Or.inl ⟨_, rfl⟩) dX2_told_46
    · refine gx_new (t0 := 15) C E dX2_told_26 rfl q1140 q1141 q160 (fun v26 => ?_)
      refine gx_dup C dX2_told_29 ?_
      refine gx_callINV (As := []) (rest := [rv g v26]) C E dX2_told_30 (mx18_init (cx_l X) g v26) (lw_meth q1144) q160 q1142 q1143 rfl hyx_X18_init hR (Nat.le_of_ble_eq_true rfl) (by decide) rfl rfl (by simp only [List.map_cons, List.map_nil, List.sum_cons, List.sum_nil, rv_cat, cat_int, cat_long]; decide) ?_
      exact gy_aret C hQ hr (Or.inl ⟨_, rfl⟩) dX2_told_33
  · refine gx_new (t0 := 14) C E dX2_told_5 rfl q1127 q1128 q159 (fun v5 => ?_)
    refine gx_dup C dX2_told_8 ?_
    refine gx_aload_n C dX2_told_9 0 rfl ?_
    refine gj_iconst C dX2_told_10 ?_
    refine gj_sipush C dX2_told_11 rfl ?_
    refine gy_callVI (t0 := 2) (As := [.int (iI 0), .int (iI 9999)]) (rest := [rv g v5, rv g v5]) C E hX hQ rfl dX2_told_14 (mx2_number_2 (cx_l X) g a0 0 9999) (lw_V q950 q952 qs13 q126 q953) hyx_X2_number_2 rfl hR (Nat.le_of_ble_eq_true rfl) (by decide) rfl rfl (by simp only [List.map_cons, List.map_nil, List.sum_cons, List.sum_nil, rv_cat, cat_int, cat_long]; decide) (fun v14 => ?_)
    refine gx_callIV (As := [.int (iI v14)]) (rest := [rv g v5]) C E dX2_told_17 (mx17_init (cx_l X) g v5 v14) (lw_meth q1131) q159 q1129 q1130 rfl hyx_X17_init hR (Nat.le_of_ble_eq_true rfl) (by decide) rfl rfl (by simp only [List.map_cons, List.map_nil, List.sum_cons, List.sum_nil, rv_cat, cat_int, cat_long]; decide) ?_
    exact gy_aret C hQ hr (Or.inl ⟨_, rfl⟩) dX2_told_20
def x2_year_b14 (a0 a2 : Option Nat) (bk14 : Unit → XT Hp (Option Nat)) : XT Hp (Option Nat) :=
  pbnd (xgI a0 2 3) fun v15 =>
  pite (w32 v15 = 0) (
    xret a2) (
    pbnd (xrecv a0 2) fun _ =>
    pbnd (x2_which a0 (some (CB + 12))) fun v24 =>
    pite (w32 v24 < 0) (
      pbnd (xrecv a0 2) fun _ =>
      pbnd (x2_wrong a0 1) fun v34 =>
      xthrow v34) (
      pbnd (xrecv a2 26) fun _ =>
      pbnd (j2_size a2) fun v39 =>
      pite (w32 v39 = 40) (
        pbnd (xrecv a0 2) fun _ =>
        pbnd (x2_wrong a0 5) fun v49 =>
        xthrow v49) (
        pbnd (xrecv a0 2) fun _ =>
        pbnd (x2_next a0) fun _ =>
        pbnd (xrecv a0 2) fun _ =>
        xbnd (x2_told a0 v24) fun v60 =>
        pbnd (xrecv a2 26) fun _ =>
        pbnd (j2_add a2 v60) fun v63 =>
        pbnd (xrecv a0 2) fun _ =>
        xbnd (x2_need_2 a0 59) fun _ =>
        bk14 ())))
def x2_year_l14 (a0 a2 : Option Nat) : XT Hp (Option Nat) :=
  ploop (fun (s : Unit) bk14 => x2_year_b14 a0 a2 bk14) ()
def x2_year (a0 a1 : Option Nat) : XT Hp (Option Nat) :=
  pbnd (xpR a0 2 7 a1) fun _ =>
  pbnd (xnew 26) fun v5 =>
  pbnd (xnn v5) fun _ =>
  pbnd (j2_init v5 4) fun _ =>
  x2_year_l14 a0 v5
set_option maxHeartbeats 4000000 in
set_option maxRecDepth 100000 in
theorem mx2_year (l : Launch) (g : XG) (a0 a1 : Option Nat) : XMetX l g RX6 yX2_year cX2_year 4 (Option.some (Jvm.ClassFile.FieldType.object "java/util/ArrayList")) (10) [rv g a0, rv g a1] (x2_year a0 a1) (rvR g) := by
  refine gy_start (by decide +kernel) (by have e := lg_sl_len [rv g a0, rv g a1]; simp only [List.map_cons, List.map_nil, List.sum_cons, List.sum_nil, rv_cat, cat_int, cat_long] at e; omega) (fun X Q σ0 hl C E hQ hR hr hX => ?_)
  subst hl
  rw [show lv_args 0 [rv g a0, rv g a1] = [(0, rv g a0), (1, rv g a1)] from by simp [lv_args, rv_cat, cat_int, cat_long]]
  show GJ X 4 (xWo g σ0 (cx_s X).heap) Q (x2_year a0 a1) 0 [(0, rv g a0), (1, rv g a1)] []
  have J14 : ∀ (a0 a2 : Option Nat), GJ X 4 (xWo g σ0 (cx_s X).heap) Q (x2_year_l14 a0 a2) 14 [(0, rv g a0), (2, rv g a2)] [] := by
    intro a0 a2
    unfold x2_year_l14
    refine gj_loop (fun (s : Unit) => [(0, rv g a0), (2, rv g a2)]) () (fun bk14 hb14 s => ?_)
    show GJ X 4 (xWo g σ0 (cx_s X).heap) Q (x2_year_b14 a0 a2 bk14) 14 [(0, rv g a0), (2, rv g a2)] []
    unfold x2_year_b14
    refine gx_aload_n C dX2_year_14 0 rfl ?_
    refine gx_gI (O := "BorrowedLives$Reader") (nm := "kind") (ds := "I") (fin := false) C E dX2_year_15 (by decide +kernel) (Or.inl q191) (fun _ h => h) (fun v15 => ?_)
    refine gj_if_eq (tgt := 76) C dX2_year_18 (by decide) (fun h18 => gj_pos h18 ?_) (fun h18 => gj_neg h18 ?_)
    · refine gx_aload_n C dX2_year_76 1 rfl ?_
      exact gy_aret C hQ hr (Or.inl ⟨_, rfl⟩) dX2_year_77
    · refine gx_aload_n C dX2_year_21 0 rfl ?_
      refine gx_ldcS C E 12 (by decide) rfl dX2_year_22 ?_
      refine gx_callVI (t0 := 2) (As := [rv g ((some (CB + 12)))]) (rest := []) C E rfl dX2_year_24 (mx2_which (cx_l X) g a0 (some (CB + 12))) (lw_V q578 q580 qs3 q126 q581) hyx_X2_which rfl hR (Nat.le_of_ble_eq_true rfl) (by decide) rfl rfl (Nat.zero_le _) (fun v24 => ?_)
      refine gj_istore_n (L' := [(3, .int (iI v24)), (0, rv g a0), (2, rv g a2)]) C dX2_year_27 (by decide) (by simp [List.filter, rv_cat, cat_int, cat_long, fin4_3]) ?_
      refine gj_iload_n C dX2_year_28 0 rfl ?_
      refine gj_if_ge (tgt := 38) C dX2_year_29 (by decide) (fun h29 => gj_neg h29 ?_) (fun h29 => gj_pos h29 ?_)
      · refine gx_aload_n C dX2_year_38 2 rfl ?_
        refine gx_callVI (t0 := 26) (As := []) (rest := []) C E rfl dX2_year_39 (mj2_size (cx_l X) g a2) (lw_V q679 q351 q352 q130 q353) hyx_J2_size rfl hR (Nat.le_of_ble_eq_true rfl) (by decide) rfl rfl (Nat.zero_le _) (fun v39 => ?_)
        refine gj_bipush C dX2_year_42 rfl ?_
        refine gj_icmp_ne (tgt := 53) (b' := 40) C dX2_year_44 (by decide) rfl (by decide) (fun h44 => gj_neg h44 ?_) (fun h44 => gj_pos h44 ?_)
        · refine gx_aload_n C dX2_year_53 1 rfl ?_
          refine gx_callVV (t0 := 2) (As := []) (rest := []) C E rfl dX2_year_54 (mx2_next (cx_l X) g a0) (lw_V q470 q472 qs1 q126 q473) hyx_X2_next rfl hR (Nat.le_of_ble_eq_true rfl) (by decide) rfl rfl (Nat.zero_le _) ?_
          refine gx_aload_n C dX2_year_57 2 rfl ?_
          refine gx_aload_n C dX2_year_58 1 rfl ?_
          refine gj_iload_n C dX2_year_59 0 rfl ?_
          refine gy_callVR (t0 := 2) (As := [.int (iI v24)]) (rest := [rv g a2]) C E hX hQ rfl dX2_year_60 (mx2_told (cx_l X) g a0 v24) (lw_V q1123 q1125 qs26 q126 q1126) hyx_X2_told rfl hR (Nat.le_of_ble_eq_true rfl) (by decide) rfl rfl (by simp only [List.map_cons, List.map_nil, List.sum_cons, List.sum_nil, rv_cat, cat_int, cat_long]; decide) (fun v60 => ?_)
          refine gx_callVI (t0 := 26) (As := [rv g v60]) (rest := []) C E rfl dX2_year_63 (mj2_add (cx_l X) g a2 v60) (lw_V q957 q958 q959 q130 q960) hyx_J2_add rfl hR (Nat.le_of_ble_eq_true rfl) (by decide) rfl rfl (Nat.zero_le _) (fun v63 => ?_)
          refine gj_pop C dX2_year_66 rfl ?_
          refine gx_aload_n C dX2_year_67 1 rfl ?_
          refine gj_bipush C dX2_year_68 rfl ?_
          refine gy_callVV (t0 := 2) (As := [.int (iI 59)]) (rest := []) C E hX hQ rfl dX2_year_70 (mx2_need_2 (cx_l X) g a0 59) (lw_V q1090 q1092 qs25 q126 q1093) hyx_X2_need_2 rfl hR (Nat.le_of_ble_eq_true rfl) (by decide) rfl rfl (Nat.zero_le _) ?_
          refine gj_goto (tgt := 14) C dX2_year_73 (by decide) ?_
          exact gj_to [1, 2] (hb14 ()) rfl
        · refine gx_aload_n C dX2_year_47 1 rfl ?_
          refine gj_iconst C dX2_year_48 ?_
          refine gx_callVR (t0 := 2) (As := [.int (iI 5)]) (rest := []) C E rfl dX2_year_49 (mx2_wrong (cx_l X) g a0 5) (lw_V q602 q604 qs4 q126 q605) hyx_X2_wrong rfl hR (Nat.le_of_ble_eq_true rfl) (by decide) rfl rfl (Nat.zero_le _) (fun v49 => ?_)
          exact gy_athrow C E hX hQ dX2_year_52
      · refine gx_aload_n C dX2_year_32 1 rfl ?_
        refine gj_iconst C dX2_year_33 ?_
        refine gx_callVR (t0 := 2) (As := [.int (iI 1)]) (rest := []) C E rfl dX2_year_34 (mx2_wrong (cx_l X) g a0 1) (lw_V q602 q604 qs4 q126 q605) hyx_X2_wrong rfl hR (Nat.le_of_ble_eq_true rfl) (by decide) rfl rfl (Nat.zero_le _) (fun v34 => ?_)
        exact gy_athrow C E hX hQ dX2_year_37
  unfold x2_year
  refine gx_aload_n C dX2_year_0 0 rfl ?_
  refine gx_aload_n C dX2_year_1 1 rfl ?_
  refine gx_pR (O := "BorrowedLives$Reader") (nm := "town") (ds := "LBorrowedLives$Town;") (fin := false) (ty := (.object "BorrowedLives$Town")) C E dX2_year_2 (by decide +kernel) (Or.inl q195) (fun _ h => h) (fun h => by cases h) (by decide +kernel) (by decide) ?_
  refine gx_new (t0 := 26) C E dX2_year_5 rfl q1120 q224 q130 (fun v5 => ?_)
  refine gx_dup C dX2_year_8 ?_
  refine gj_iconst C dX2_year_9 ?_
  refine gx_callIV (As := [.int (iI 4)]) (rest := [rv g v5]) C E dX2_year_10 (mj2_init (cx_l X) g v5 4) (lw_meth q227) q130 q1121 q226 rfl hyx_J2_init hR (Nat.le_of_ble_eq_true rfl) (by decide) rfl rfl (by simp only [List.map_cons, List.map_nil, List.sum_cons, List.sum_nil, rv_cat, cat_int, cat_long]; decide) ?_
  refine gx_astore_n (L' := [(2, rv g v5), (0, rv g a0), (1, rv g a1)]) C dX2_year_13 (by decide) (by simp [List.filter, rv_cat, cat_int, cat_long, fin4_3]) ?_
  exact gj_to [1, 0] (J14 a0 v5) rfl
def x1_year (a0 : Option Nat) : PT Hp Int :=
  pbnd (xrecv a0 1) fun _ =>
  pbnd (x1_reads a0) fun _ =>
  pbnd (xgR a0 1 1) fun v6 =>
  pbnd (xgR a0 1 2) fun v10 =>
  pbnd (xrecv v6 2) fun _ =>
  xtry (x2_year v6 v10) (fun q13 =>
    pbnd (xgI ((some q13)) 5 6) fun v24 =>
    pret v24
    ) fun v13 =>
  pbnd (xpR a0 1 3 v13) fun _ =>
  pret 0
set_option maxHeartbeats 4000000 in
set_option maxRecDepth 100000 in
theorem mx1_year (l : Launch) (g : XG) (a0 : Option Nat) : XMetW l g yX1_year cX1_year 2 (Option.some Jvm.ClassFile.FieldType.int) [((4 : Nat), (19 : Nat), (22 : Nat), (118 : Nat))] (11) [rv g a0] (x1_year a0) rvI := by
  refine gx_startW (by decide +kernel) (by have e := lg_sl_len [rv g a0]; simp only [List.map_cons, List.map_nil, List.sum_cons, List.sum_nil, rv_cat, cat_int, cat_long] at e; omega) (fun X Q σ0 hl C E hQ hR hr hTab => ?_)
  subst hl
  rw [show lv_args 0 [rv g a0] = [(0, rv g a0)] from by simp [lv_args, rv_cat, cat_int, cat_long]]
  show GJ X 2 (xWo g σ0 (cx_s X).heap) Q (x1_year a0) 0 [(0, rv g a0)] []
  unfold x1_year
  refine gx_aload_n C dX1_year_0 0 rfl ?_
  refine gx_callVV (t0 := 1) (As := []) (rest := []) C E rfl dX1_year_1 (mx1_reads (cx_l X) g a0) (lw_V q462 q464 qs0 q125 q465) hyx_X1_reads rfl hR (Nat.le_of_ble_eq_true rfl) (by decide) rfl rfl (Nat.zero_le _) ?_
  refine gx_aload_n C dX1_year_4 0 rfl ?_
  refine gx_aload_n C dX1_year_5 0 rfl ?_
  refine gx_gR (O := "BorrowedLives") (nm := "reader") (ds := "LBorrowedLives$Reader;") (fin := true) C E dX1_year_6 (by decide +kernel) (Or.inl q374) (fun _ h => h) (fun v6 => ?_)
  refine gx_aload_n C dX1_year_9 0 rfl ?_
  refine gx_gR (O := "BorrowedLives") (nm := "town") (ds := "LBorrowedLives$Town;") (fin := false) C E dX1_year_10 (by decide +kernel) (Or.inl q377) (fun _ h => h) (fun v10 => ?_)
  refine gy_tryVR (t0 := 2) (As := [rv g v10]) (rest := [rv g a0]) C E rfl dX1_year_13 (mx2_year (cx_l X) g v6 v10) (lw_V q1116 q1117 q1118 q126 q1119) hyx_X2_year rfl hR (Nat.le_of_ble_eq_true rfl) (by decide) rfl rfl (by simp only [List.map_cons, List.map_nil, List.sum_cons, List.sum_nil, rv_cat, cat_int, cat_long]; decide) (gy_caught C E hTab (by decide) (by decide) q461 q608 (fun q13 => ?_)) (fun v13 => ?_)
  · refine gx_astore_n (L' := [(1, rv g ((some q13))), (0, rv g a0)]) C dX1_year_22 (by decide) (by simp [List.filter, rv_cat, cat_int, cat_long, fin4_3]) ?_
    refine gx_aload_n C dX1_year_23 0 rfl ?_
    refine gx_gI (O := "BorrowedLives$Wrong") (nm := "fault") (ds := "I") (fin := true) C E dX1_year_24 (by decide +kernel) (Or.inr ⟨_, q659⟩) (fun _ h => h) (fun v24 => ?_)
    exact gx_iret C hQ hr dX1_year_27
  refine gx_pR (O := "BorrowedLives") (nm := "lines") (ds := "Ljava/util/ArrayList;") (fin := false) (ty := (.object "java/util/ArrayList")) C E dX1_year_16 (by decide +kernel) (Or.inl q378) (fun _ h => h) (fun h => by cases h) (by decide +kernel) (by decide) ?_
  refine gj_goto (tgt := 28) C dX1_year_19 (by decide) ?_
  refine gj_iconst C dX1_year_28 ?_
  exact gx_iret C hQ hr dX1_year_29
def x4_lifeOf_b2 (a0 : Option Nat) (a1 : Int) (a2 : Int) (bk2 : (Int) → PT Hp Int) : PT Hp Int :=
  pite (w32 a2 < 6) (
    pbnd (xgR a0 4 6) fun v9 =>
    pbnd (xld v9 40 a2) fun v13 =>
    pite (w32 v13 = w32 a1) (
      pret (w32 a2)) (
      bk2 (a2 + 1))) (
    pret (-1))
def x4_lifeOf_l2 (a0 : Option Nat) (a1 a2 : Int) : PT Hp Int :=
  ploop (fun (s : (Int)) bk2 => x4_lifeOf_b2 a0 a1 s bk2) (a2)
def x4_lifeOf (a0 : Option Nat) (a1 : Int) : PT Hp Int :=
  x4_lifeOf_l2 a0 a1 0
set_option maxHeartbeats 4000000 in
set_option maxRecDepth 100000 in
theorem mx4_lifeOf (l : Launch) (g : XG) (a0 : Option Nat) (a1 : Int) : XMet l g yX4_lifeOf cX4_lifeOf 3 (Option.some Jvm.ClassFile.FieldType.int) (0) [rv g a0, .int (iI a1)] (x4_lifeOf a0 a1) rvI := by
  refine gx_start (by decide +kernel) (by have e := lg_sl_len [rv g a0, .int (iI a1)]; simp only [List.map_cons, List.map_nil, List.sum_cons, List.sum_nil, rv_cat, cat_int, cat_long] at e; omega) (fun X Q σ0 hl C E hQ hR hr hnm => ?_)
  subst hl
  rw [show lv_args 0 [rv g a0, .int (iI a1)] = [(0, rv g a0), (1, .int (iI a1))] from by simp [lv_args, rv_cat, cat_int, cat_long]]
  show GJ X 3 (xWo g σ0 (cx_s X).heap) Q (x4_lifeOf a0 a1) 0 [(0, rv g a0), (1, .int (iI a1))] []
  have J2 : ∀ (a0 : Option Nat) (a1 a2 : Int), GJ X 3 (xWo g σ0 (cx_s X).heap) Q (x4_lifeOf_l2 a0 a1 a2) 2 [(0, rv g a0), (1, .int (iI a1)), (2, .int (iI a2))] [] := by
    intro a0 a1 a2
    unfold x4_lifeOf_l2
    refine gj_loop (fun (s : (Int)) => [(0, rv g a0), (1, .int (iI a1)), (2, .int (iI s))]) (a2) (fun bk2 hb2 s => ?_)
    obtain ⟨a2, rfl⟩ : ∃ z, z = s := ⟨s, rfl⟩
    show GJ X 3 (xWo g σ0 (cx_s X).heap) Q (x4_lifeOf_b2 a0 a1 a2 bk2) 2 [(0, rv g a0), (1, .int (iI a1)), (2, .int (iI a2))] []
    unfold x4_lifeOf_b2
    refine gj_iload_n C dX4_lifeOf_2 2 rfl ?_
    refine gj_bipush C dX4_lifeOf_3 rfl ?_
    refine gj_icmp_ge (tgt := 26) (b' := 6) C dX4_lifeOf_5 (by decide) rfl (by decide) (fun h5 => gj_neg h5 ?_) (fun h5 => gj_pos h5 ?_)
    · refine gj_iconst C dX4_lifeOf_26 ?_
      exact gx_iret C hQ hr dX4_lifeOf_27
    · refine gx_aload_n C dX4_lifeOf_8 0 rfl ?_
      refine gx_gR (O := "BorrowedLives$State") (nm := "self") (ds := "[I") (fin := true) C E dX4_lifeOf_9 (by decide +kernel) (Or.inl q302) (fun _ h => h) (fun v9 => ?_)
      refine gj_iload_n C dX4_lifeOf_12 2 rfl ?_
      refine gx_iald C E dX4_lifeOf_13 (fun v13 => ?_)
      refine gj_iload_n C dX4_lifeOf_14 1 rfl ?_
      refine gj_icmp_ne (tgt := 20) C dX4_lifeOf_15 (by decide) rfl rfl (fun h15 => gj_neg h15 ?_) (fun h15 => gj_pos h15 ?_)
      · refine gj_iinc (L' := [(2, _), (0, _), (1, _)]) C dX4_lifeOf_20 2 rfl (by decide) rfl ?_
        refine gj_goto (tgt := 2) C dX4_lifeOf_23 (by decide) ?_
        exact gj_to [1, 2, 0] (hb2 (a2 + 1)) rfl
      · refine gj_iload_n C dX4_lifeOf_18 2 rfl ?_
        refine gj_nrmI ?_
        exact gx_iret C hQ hr dX4_lifeOf_19
  unfold x4_lifeOf
  refine gj_iconst C dX4_lifeOf_0 ?_
  refine gj_istore_n (L' := [(2, _), (0, _), (1, _)]) C dX4_lifeOf_1 (by decide) rfl ?_
  exact gj_to [1, 2, 0] (J2 a0 a1 0) rfl
def x1_person (a0 : Option Nat) (a1 a2 : Int) : PT Hp Int :=
  pbnd (xrecv a0 1) fun _ =>
  pbnd (x1_isPerson a0 a1) fun v2 =>
  pite (w32 v2 = 0) (
    pret (-1)) (
    pite (w32 a2 = 0) (
      pbnd (xrecv a0 1) fun _ =>
      pbnd (x1_person_2 a0 a1) fun v38 =>
      pbnd (xdisp v38 [(6, x7_kind v38), (7, x8_kind v38), (8, x9_kind v38), (9, x10_kind v38)]) fun v41 =>
      pret v41) (
      pite (w32 a2 = 1) (
        pbnd (xrecv a0 1) fun _ =>
        pbnd (x1_person_2 a0 a1) fun v47 =>
        pbnd (xgIs v47 [6, 7, 8, 9] 1) fun v50 =>
        pret v50) (
        pite (w32 a2 = 2) (
          pbnd (xgR a0 1 4) fun v55 =>
          pbnd (xrecv v55 4) fun _ =>
          pbnd (x4_lifeOf v55 a1) fun v59 =>
          pret v59) (
          pret (-1)))))
set_option maxHeartbeats 4000000 in
set_option maxRecDepth 100000 in
theorem mx1_person (l : Launch) (g : XG) (a0 : Option Nat) (a1 a2 : Int) : XMet l g yX1_person cX1_person 3 (Option.some Jvm.ClassFile.FieldType.int) (4) [rv g a0, .int (iI a1), .int (iI a2)] (x1_person a0 a1 a2) rvI := by
  refine gx_start (by decide +kernel) (by have e := lg_sl_len [rv g a0, .int (iI a1), .int (iI a2)]; simp only [List.map_cons, List.map_nil, List.sum_cons, List.sum_nil, rv_cat, cat_int, cat_long] at e; omega) (fun X Q σ0 hl C E hQ hR hr hnm => ?_)
  subst hl
  rw [show lv_args 0 [rv g a0, .int (iI a1), .int (iI a2)] = [(0, rv g a0), (1, .int (iI a1)), (2, .int (iI a2))] from by simp [lv_args, rv_cat, cat_int, cat_long]]
  show GJ X 3 (xWo g σ0 (cx_s X).heap) Q (x1_person a0 a1 a2) 0 [(0, rv g a0), (1, .int (iI a1)), (2, .int (iI a2))] []
  unfold x1_person
  refine gx_aload_n C dX1_person_0 0 rfl ?_
  refine gj_iload_n C dX1_person_1 1 rfl ?_
  refine gx_callVI (t0 := 1) (As := [.int (iI a1)]) (rest := []) C E rfl dX1_person_2 (mx1_isPerson (cx_l X) g a0 a1) (lw_V q1188 q1190 qs28 q125 q1191) hyx_X1_isPerson rfl hR (Nat.le_of_ble_eq_true rfl) (by decide) rfl rfl (Nat.zero_le _) (fun v2 => ?_)
  refine gj_if_ne (tgt := 10) C dX1_person_5 (by decide) (fun h5 => gj_neg h5 ?_) (fun h5 => gj_pos h5 ?_)
  · refine gj_iload_n C dX1_person_10 2 rfl ?_
    by_cases h11_0 : w32 a2 = 0
    · refine gj_pos h11_0 ?_
      refine gj_tin (tgt := 36) C 0 h11_0 dX1_person_11 (by decide) (by decide) rfl (by decide) ?_
      refine gx_aload_n C dX1_person_36 0 rfl ?_
      refine gj_iload_n C dX1_person_37 1 rfl ?_
      refine gx_callVR (t0 := 1) (As := [.int (iI a1)]) (rest := []) C E rfl dX1_person_38 (mx1_person_2 (cx_l X) g a0 a1) (lw_V q1200 q1202 qs30 q125 q1203) hyx_X1_person_2 rfl hR (Nat.le_of_ble_eq_true rfl) (by decide) rfl rfl (Nat.zero_le _) (fun v38 => ?_)
      refine gx_shI (rest := []) (fun kk => ?_) (fun v41 => ?_)
      · refine gx_dcons (gx_callOI (x := ⟨"BorrowedLives$Person", "kind", "()I"⟩) (owner := "BorrowedLives$Person") (t0 := 6) (As := []) (rest := []) C E rfl dX1_person_41 (mx7_kind (cx_l X) g v38) q1206 q1209 q1207 q1208 q1207 q149 q1219 q1219 hy9_X7_kind hR (Nat.le_of_ble_eq_true rfl) (by decide) rfl rfl (Nat.zero_le _) kk) ?_
        refine gx_dcons (gx_callOI (x := ⟨"BorrowedLives$Person", "kind", "()I"⟩) (owner := "BorrowedLives$Person") (t0 := 7) (As := []) (rest := []) C E rfl dX1_person_41 (mx8_kind (cx_l X) g v38) q1206 q1209 q1207 q1213 q1214 q150 q1215 q1219 hy9_X7_kind hR (Nat.le_of_ble_eq_true rfl) (by decide) rfl rfl (Nat.zero_le _) kk) ?_
        refine gx_dcons (gx_callOI (x := ⟨"BorrowedLives$Person", "kind", "()I"⟩) (owner := "BorrowedLives$Person") (t0 := 8) (As := []) (rest := []) C E rfl dX1_person_41 (mx9_kind (cx_l X) g v38) q1206 q1209 q1207 q1216 q1217 q151 q1218 q1219 hy9_X7_kind hR (Nat.le_of_ble_eq_true rfl) (by decide) rfl rfl (Nat.zero_le _) kk) ?_
        refine gx_dcons (gx_callOI (x := ⟨"BorrowedLives$Person", "kind", "()I"⟩) (owner := "BorrowedLives$Person") (t0 := 9) (As := []) (rest := []) C E rfl dX1_person_41 (mx10_kind (cx_l X) g v38) q1206 q1209 q1207 q1210 q1211 q152 q1212 q1219 hy9_X7_kind hR (Nat.le_of_ble_eq_true rfl) (by decide) rfl rfl (Nat.zero_le _) kk) ?_
        exact gx_dnil
      exact gx_iret C hQ hr dX1_person_44
    · refine gj_neg h11_0 ?_
      by_cases h11_1 : w32 a2 = 1
      · refine gj_pos h11_1 ?_
        refine gj_tin (tgt := 45) C 1 h11_1 dX1_person_11 (by decide) (by decide) rfl (by decide) ?_
        refine gx_aload_n C dX1_person_45 0 rfl ?_
        refine gj_iload_n C dX1_person_46 1 rfl ?_
        refine gx_callVR (t0 := 1) (As := [.int (iI a1)]) (rest := []) C E rfl dX1_person_47 (mx1_person_2 (cx_l X) g a0 a1) (lw_V q1200 q1202 qs30 q125 q1203) hyx_X1_person_2 rfl hR (Nat.le_of_ble_eq_true rfl) (by decide) rfl rfl (Nat.zero_le _) (fun v47 => ?_)
        refine gx_gIs (O := "BorrowedLives$Person") (nm := "skill") (ds := "I") (fin := false) C E dX1_person_50 (by decide +kernel) (Or.inl q879) (fun _ h => h) (fun v50 => ?_)
        exact gx_iret C hQ hr dX1_person_53
      · refine gj_neg h11_1 ?_
        by_cases h11_2 : w32 a2 = 2
        · refine gj_pos h11_2 ?_
          refine gj_tin (tgt := 54) C 2 h11_2 dX1_person_11 (by decide) (by decide) rfl (by decide) ?_
          refine gx_aload_n C dX1_person_54 0 rfl ?_
          refine gx_gR (O := "BorrowedLives") (nm := "state") (ds := "LBorrowedLives$State;") (fin := true) C E dX1_person_55 (by decide +kernel) (Or.inl q380) (fun _ h => h) (fun v55 => ?_)
          refine gj_iload_n C dX1_person_58 1 rfl ?_
          refine gx_callVI (t0 := 4) (As := [.int (iI a1)]) (rest := []) C E rfl dX1_person_59 (mx4_lifeOf (cx_l X) g v55 a1) (lw_V q1220 q1221 q1222 q131 q1223) hyx_X4_lifeOf rfl hR (Nat.le_of_ble_eq_true rfl) (by decide) rfl rfl (Nat.zero_le _) (fun v59 => ?_)
          exact gx_iret C hQ hr dX1_person_62
        · refine gj_neg h11_2 ?_
          refine gj_tout (tgt := 63) C dX1_person_11 (by omega) (by decide) ?_
          refine gj_iconst C dX1_person_63 ?_
          exact gx_iret C hQ hr dX1_person_64
  · refine gj_iconst C dX1_person_8 ?_
    exact gx_iret C hQ hr dX1_person_9
def x4_harmOf (a0 : Option Nat) (a1 : Int) : PT Hp Int :=
  pbnd (xgI a0 4 7) fun v1 =>
  pite (w32 v1 = 0) (
    pret 0) (
    pbnd (xgR a0 4 4) fun v9 =>
    pbnd (xld v9 40 a1) fun v13 =>
    pbnd (xgR a0 4 0) fun v15 =>
    pbnd (xld v15 40 a1) fun v19 =>
    pbnd (xgR a0 4 1) fun v22 =>
    pbnd (xld v22 40 a1) fun v26 =>
    pbnd (xgR a0 4 5) fun v34 =>
    pbnd (xld v34 40 a1) fun v38 =>
    pbnd (xgR a0 4 2) fun v40 =>
    pbnd (xld v40 40 a1) fun v44 =>
    pret (w32 ((zmax 0 ((((v13 - v19)) + v26))) + ((5 * (zmax 0 ((v38 - v44))))))))
set_option maxHeartbeats 4000000 in
set_option maxRecDepth 100000 in
theorem mx4_harmOf (l : Launch) (g : XG) (a0 : Option Nat) (a1 : Int) : XMet l g yX4_harmOf cX4_harmOf 2 (Option.some Jvm.ClassFile.FieldType.int) (1) [rv g a0, .int (iI a1)] (x4_harmOf a0 a1) rvI := by
  refine gx_start (by decide +kernel) (by have e := lg_sl_len [rv g a0, .int (iI a1)]; simp only [List.map_cons, List.map_nil, List.sum_cons, List.sum_nil, rv_cat, cat_int, cat_long] at e; omega) (fun X Q σ0 hl C E hQ hR hr hnm => ?_)
  subst hl
  rw [show lv_args 0 [rv g a0, .int (iI a1)] = [(0, rv g a0), (1, .int (iI a1))] from by simp [lv_args, rv_cat, cat_int, cat_long]]
  show GJ X 2 (xWo g σ0 (cx_s X).heap) Q (x4_harmOf a0 a1) 0 [(0, rv g a0), (1, .int (iI a1))] []
  unfold x4_harmOf
  refine gx_aload_n C dX4_harmOf_0 0 rfl ?_
  refine gx_gI (O := "BorrowedLives$State") (nm := "away") (ds := "Z") (fin := false) C E dX4_harmOf_1 (by decide +kernel) (Or.inl q308) (fun _ h => h) (fun v1 => ?_)
  refine gj_if_eq (tgt := 54) C dX4_harmOf_4 (by decide) (fun h4 => gj_pos h4 ?_) (fun h4 => gj_neg h4 ?_)
  · refine gj_iconst C dX4_harmOf_54 ?_
    exact gx_iret C hQ hr dX4_harmOf_55
  · refine gj_iconst C dX4_harmOf_7 ?_
    refine gx_aload_n C dX4_harmOf_8 0 rfl ?_
    refine gx_gR (O := "BorrowedLives$State") (nm := "had") (ds := "[I") (fin := true) C E dX4_harmOf_9 (by decide +kernel) (Or.inl q300) (fun _ h => h) (fun v9 => ?_)
    refine gj_iload_n C dX4_harmOf_12 1 rfl ?_
    refine gx_iald C E dX4_harmOf_13 (fun v13 => ?_)
    refine gx_aload_n C dX4_harmOf_14 0 rfl ?_
    refine gx_gR (O := "BorrowedLives$State") (nm := "purse") (ds := "[I") (fin := true) C E dX4_harmOf_15 (by decide +kernel) (Or.inl q290) (fun _ h => h) (fun v15 => ?_)
    refine gj_iload_n C dX4_harmOf_18 1 rfl ?_
    refine gx_iald C E dX4_harmOf_19 (fun v19 => ?_)
    refine gj_isub C dX4_harmOf_20 ?_
    refine gx_aload_n C dX4_harmOf_21 0 rfl ?_
    refine gx_gR (O := "BorrowedLives$State") (nm := "debt") (ds := "[I") (fin := true) C E dX4_harmOf_22 (by decide +kernel) (Or.inl q293) (fun _ h => h) (fun v22 => ?_)
    refine gj_iload_n C dX4_harmOf_25 1 rfl ?_
    refine gx_iald C E dX4_harmOf_26 (fun v26 => ?_)
    refine gj_iadd C dX4_harmOf_27 ?_
    refine gx_max C E dX4_harmOf_28 q1232 q514 q137 q515 hR (Nat.le_of_ble_eq_true rfl) (Nat.zero_le _) ?_
    refine gj_iconst C dX4_harmOf_31 ?_
    refine gj_iconst C dX4_harmOf_32 ?_
    refine gx_aload_n C dX4_harmOf_33 0 rfl ?_
    refine gx_gR (O := "BorrowedLives$State") (nm := "neat") (ds := "[I") (fin := true) C E dX4_harmOf_34 (by decide +kernel) (Or.inl q301) (fun _ h => h) (fun v34 => ?_)
    refine gj_iload_n C dX4_harmOf_37 1 rfl ?_
    refine gx_iald C E dX4_harmOf_38 (fun v38 => ?_)
    refine gx_aload_n C dX4_harmOf_39 0 rfl ?_
    refine gx_gR (O := "BorrowedLives$State") (nm := "home") (ds := "[I") (fin := true) C E dX4_harmOf_40 (by decide +kernel) (Or.inl q295) (fun _ h => h) (fun v40 => ?_)
    refine gj_iload_n C dX4_harmOf_43 1 rfl ?_
    refine gx_iald C E dX4_harmOf_44 (fun v44 => ?_)
    refine gj_isub C dX4_harmOf_45 ?_
    refine gx_max C E dX4_harmOf_46 q1232 q514 q137 q515 hR (Nat.le_of_ble_eq_true rfl) (Nat.le_of_ble_eq_true rfl) ?_
    refine gj_imul C dX4_harmOf_49 ?_
    refine gj_iadd C dX4_harmOf_50 ?_
    refine gj_goto (tgt := 55) C dX4_harmOf_51 (by decide) ?_
    refine gj_nrmI ?_
    exact gx_iret C hQ hr dX4_harmOf_55
def x4_goodOf (a0 : Option Nat) (a1 : Int) : PT Hp Int :=
  pbnd (xgI a0 4 7) fun v1 =>
  pite (w32 v1 = 0) (
    pret 0) (
    pbnd (xgR a0 4 0) fun v9 =>
    pbnd (xld v9 40 a1) fun v13 =>
    pbnd (xgR a0 4 1) fun v15 =>
    pbnd (xld v15 40 a1) fun v19 =>
    pbnd (xgR a0 4 4) fun v22 =>
    pbnd (xld v22 40 a1) fun v26 =>
    pbnd (xgR a0 4 2) fun v34 =>
    pbnd (xld v34 40 a1) fun v38 =>
    pbnd (xgR a0 4 5) fun v40 =>
    pbnd (xld v40 40 a1) fun v44 =>
    pret (w32 ((zmax 0 ((((v13 - v19)) - v26))) + ((5 * (zmax 0 ((v38 - v44))))))))
set_option maxHeartbeats 4000000 in
set_option maxRecDepth 100000 in
theorem mx4_goodOf (l : Launch) (g : XG) (a0 : Option Nat) (a1 : Int) : XMet l g yX4_goodOf cX4_goodOf 2 (Option.some Jvm.ClassFile.FieldType.int) (1) [rv g a0, .int (iI a1)] (x4_goodOf a0 a1) rvI := by
  refine gx_start (by decide +kernel) (by have e := lg_sl_len [rv g a0, .int (iI a1)]; simp only [List.map_cons, List.map_nil, List.sum_cons, List.sum_nil, rv_cat, cat_int, cat_long] at e; omega) (fun X Q σ0 hl C E hQ hR hr hnm => ?_)
  subst hl
  rw [show lv_args 0 [rv g a0, .int (iI a1)] = [(0, rv g a0), (1, .int (iI a1))] from by simp [lv_args, rv_cat, cat_int, cat_long]]
  show GJ X 2 (xWo g σ0 (cx_s X).heap) Q (x4_goodOf a0 a1) 0 [(0, rv g a0), (1, .int (iI a1))] []
  unfold x4_goodOf
  refine gx_aload_n C dX4_goodOf_0 0 rfl ?_
  refine gx_gI (O := "BorrowedLives$State") (nm := "away") (ds := "Z") (fin := false) C E dX4_goodOf_1 (by decide +kernel) (Or.inl q308) (fun _ h => h) (fun v1 => ?_)
  refine gj_if_eq (tgt := 54) C dX4_goodOf_4 (by decide) (fun h4 => gj_pos h4 ?_) (fun h4 => gj_neg h4 ?_)
  · refine gj_iconst C dX4_goodOf_54 ?_
    exact gx_iret C hQ hr dX4_goodOf_55
  · refine gj_iconst C dX4_goodOf_7 ?_
    refine gx_aload_n C dX4_goodOf_8 0 rfl ?_
    refine gx_gR (O := "BorrowedLives$State") (nm := "purse") (ds := "[I") (fin := true) C E dX4_goodOf_9 (by decide +kernel) (Or.inl q290) (fun _ h => h) (fun v9 => ?_)
    refine gj_iload_n C dX4_goodOf_12 1 rfl ?_
    refine gx_iald C E dX4_goodOf_13 (fun v13 => ?_)
    refine gx_aload_n C dX4_goodOf_14 0 rfl ?_
    refine gx_gR (O := "BorrowedLives$State") (nm := "debt") (ds := "[I") (fin := true) C E dX4_goodOf_15 (by decide +kernel) (Or.inl q293) (fun _ h => h) (fun v15 => ?_)
    refine gj_iload_n C dX4_goodOf_18 1 rfl ?_
    refine gx_iald C E dX4_goodOf_19 (fun v19 => ?_)
    refine gj_isub C dX4_goodOf_20 ?_
    refine gx_aload_n C dX4_goodOf_21 0 rfl ?_
    refine gx_gR (O := "BorrowedLives$State") (nm := "had") (ds := "[I") (fin := true) C E dX4_goodOf_22 (by decide +kernel) (Or.inl q300) (fun _ h => h) (fun v22 => ?_)
    refine gj_iload_n C dX4_goodOf_25 1 rfl ?_
    refine gx_iald C E dX4_goodOf_26 (fun v26 => ?_)
    refine gj_isub C dX4_goodOf_27 ?_
    refine gx_max C E dX4_goodOf_28 q1232 q514 q137 q515 hR (Nat.le_of_ble_eq_true rfl) (Nat.zero_le _) ?_
    refine gj_iconst C dX4_goodOf_31 ?_
    refine gj_iconst C dX4_goodOf_32 ?_
    refine gx_aload_n C dX4_goodOf_33 0 rfl ?_
    refine gx_gR (O := "BorrowedLives$State") (nm := "home") (ds := "[I") (fin := true) C E dX4_goodOf_34 (by decide +kernel) (Or.inl q295) (fun _ h => h) (fun v34 => ?_)
    refine gj_iload_n C dX4_goodOf_37 1 rfl ?_
    refine gx_iald C E dX4_goodOf_38 (fun v38 => ?_)
    refine gx_aload_n C dX4_goodOf_39 0 rfl ?_
    refine gx_gR (O := "BorrowedLives$State") (nm := "neat") (ds := "[I") (fin := true) C E dX4_goodOf_40 (by decide +kernel) (Or.inl q301) (fun _ h => h) (fun v40 => ?_)
    refine gj_iload_n C dX4_goodOf_43 1 rfl ?_
    refine gx_iald C E dX4_goodOf_44 (fun v44 => ?_)
    refine gj_isub C dX4_goodOf_45 ?_
    refine gx_max C E dX4_goodOf_46 q1232 q514 q137 q515 hR (Nat.le_of_ble_eq_true rfl) (Nat.le_of_ble_eq_true rfl) ?_
    refine gj_imul C dX4_goodOf_49 ?_
    refine gj_iadd C dX4_goodOf_50 ?_
    refine gj_goto (tgt := 55) C dX4_goodOf_51 (by decide) ?_
    refine gj_nrmI ?_
    exact gx_iret C hQ hr dX4_goodOf_55
def x1_life (a0 : Option Nat) (a1 a2 : Int) : PT Hp Int :=
  pbnd (xrecv a0 1) fun _ =>
  pbnd (x1_isPerson a0 a1) fun v2 =>
  pite (w32 v2 = 0) (
    pret (-1)) (
    pite (w32 a2 = 0) (
      pbnd (xgR a0 1 4) fun v53 =>
      pbnd (xgR v53 4 0) fun v56 =>
      pbnd (xld v56 40 a1) fun v60 =>
      pret v60) (
      pite (w32 a2 = 1) (
        pbnd (xgR a0 1 4) fun v63 =>
        pbnd (xgR v63 4 1) fun v66 =>
        pbnd (xld v66 40 a1) fun v70 =>
        pret v70) (
        pite (w32 a2 = 2) (
          pbnd (xgR a0 1 4) fun v73 =>
          pbnd (xgR v73 4 2) fun v76 =>
          pbnd (xld v76 40 a1) fun v80 =>
          pret v80) (
          pite (w32 a2 = 3) (
            pbnd (xgR a0 1 4) fun v83 =>
            pbnd (xgR v83 4 3) fun v86 =>
            pbnd (xld v86 40 a1) fun v90 =>
            pret v90) (
            pite (w32 a2 = 4) (
              pbnd (xgR a0 1 4) fun v93 =>
              pbnd (xgR v93 4 6) fun v96 =>
              pbnd (xld v96 40 a1) fun v100 =>
              pret v100) (
              pite (w32 a2 = 5) (
                pbnd (xgR a0 1 4) fun v103 =>
                pbnd (xrecv v103 4) fun _ =>
                pbnd (x4_harmOf v103 a1) fun v107 =>
                pret v107) (
                pite (w32 a2 = 6) (
                  pbnd (xgR a0 1 4) fun v112 =>
                  pbnd (xrecv v112 4) fun _ =>
                  pbnd (x4_goodOf v112 a1) fun v116 =>
                  pret v116) (
                  pret (-1)))))))))
set_option maxHeartbeats 4000000 in
set_option maxRecDepth 100000 in
theorem mx1_life (l : Launch) (g : XG) (a0 : Option Nat) (a1 a2 : Int) : XMet l g yX1_life cX1_life 3 (Option.some Jvm.ClassFile.FieldType.int) (3) [rv g a0, .int (iI a1), .int (iI a2)] (x1_life a0 a1 a2) rvI := by
  refine gx_start (by decide +kernel) (by have e := lg_sl_len [rv g a0, .int (iI a1), .int (iI a2)]; simp only [List.map_cons, List.map_nil, List.sum_cons, List.sum_nil, rv_cat, cat_int, cat_long] at e; omega) (fun X Q σ0 hl C E hQ hR hr hnm => ?_)
  subst hl
  rw [show lv_args 0 [rv g a0, .int (iI a1), .int (iI a2)] = [(0, rv g a0), (1, .int (iI a1)), (2, .int (iI a2))] from by simp [lv_args, rv_cat, cat_int, cat_long]]
  show GJ X 3 (xWo g σ0 (cx_s X).heap) Q (x1_life a0 a1 a2) 0 [(0, rv g a0), (1, .int (iI a1)), (2, .int (iI a2))] []
  unfold x1_life
  refine gx_aload_n C dX1_life_0 0 rfl ?_
  refine gj_iload_n C dX1_life_1 1 rfl ?_
  refine gx_callVI (t0 := 1) (As := [.int (iI a1)]) (rest := []) C E rfl dX1_life_2 (mx1_isPerson (cx_l X) g a0 a1) (lw_V q1188 q1190 qs28 q125 q1191) hyx_X1_isPerson rfl hR (Nat.le_of_ble_eq_true rfl) (by decide) rfl rfl (Nat.zero_le _) (fun v2 => ?_)
  refine gj_if_ne (tgt := 10) C dX1_life_5 (by decide) (fun h5 => gj_neg h5 ?_) (fun h5 => gj_pos h5 ?_)
  · refine gj_iload_n C dX1_life_10 2 rfl ?_
    by_cases h11_0 : w32 a2 = 0
    · refine gj_pos h11_0 ?_
      refine gj_tin (tgt := 52) C 0 h11_0 dX1_life_11 (by decide) (by decide) rfl (by decide) ?_
      refine gx_aload_n C dX1_life_52 0 rfl ?_
      refine gx_gR (O := "BorrowedLives") (nm := "state") (ds := "LBorrowedLives$State;") (fin := true) C E dX1_life_53 (by decide +kernel) (Or.inl q380) (fun _ h => h) (fun v53 => ?_)
      refine gx_gR (O := "BorrowedLives$State") (nm := "purse") (ds := "[I") (fin := true) C E dX1_life_56 (by decide +kernel) (Or.inr ⟨_, q292⟩) (fun _ h => h) (fun v56 => ?_)
      refine gj_iload_n C dX1_life_59 1 rfl ?_
      refine gx_iald C E dX1_life_60 (fun v60 => ?_)
      exact gx_iret C hQ hr dX1_life_61
    · refine gj_neg h11_0 ?_
      by_cases h11_1 : w32 a2 = 1
      · refine gj_pos h11_1 ?_
        refine gj_tin (tgt := 62) C 1 h11_1 dX1_life_11 (by decide) (by decide) rfl (by decide) ?_
        refine gx_aload_n C dX1_life_62 0 rfl ?_
        refine gx_gR (O := "BorrowedLives") (nm := "state") (ds := "LBorrowedLives$State;") (fin := true) C E dX1_life_63 (by decide +kernel) (Or.inl q380) (fun _ h => h) (fun v63 => ?_)
        refine gx_gR (O := "BorrowedLives$State") (nm := "debt") (ds := "[I") (fin := true) C E dX1_life_66 (by decide +kernel) (Or.inr ⟨_, q294⟩) (fun _ h => h) (fun v66 => ?_)
        refine gj_iload_n C dX1_life_69 1 rfl ?_
        refine gx_iald C E dX1_life_70 (fun v70 => ?_)
        exact gx_iret C hQ hr dX1_life_71
      · refine gj_neg h11_1 ?_
        by_cases h11_2 : w32 a2 = 2
        · refine gj_pos h11_2 ?_
          refine gj_tin (tgt := 72) C 2 h11_2 dX1_life_11 (by decide) (by decide) rfl (by decide) ?_
          refine gx_aload_n C dX1_life_72 0 rfl ?_
          refine gx_gR (O := "BorrowedLives") (nm := "state") (ds := "LBorrowedLives$State;") (fin := true) C E dX1_life_73 (by decide +kernel) (Or.inl q380) (fun _ h => h) (fun v73 => ?_)
          refine gx_gR (O := "BorrowedLives$State") (nm := "home") (ds := "[I") (fin := true) C E dX1_life_76 (by decide +kernel) (Or.inr ⟨_, q296⟩) (fun _ h => h) (fun v76 => ?_)
          refine gj_iload_n C dX1_life_79 1 rfl ?_
          refine gx_iald C E dX1_life_80 (fun v80 => ?_)
          exact gx_iret C hQ hr dX1_life_81
        · refine gj_neg h11_2 ?_
          by_cases h11_3 : w32 a2 = 3
          · refine gj_pos h11_3 ?_
            refine gj_tin (tgt := 82) C 3 h11_3 dX1_life_11 (by decide) (by decide) rfl (by decide) ?_
            refine gx_aload_n C dX1_life_82 0 rfl ?_
            refine gx_gR (O := "BorrowedLives") (nm := "state") (ds := "LBorrowedLives$State;") (fin := true) C E dX1_life_83 (by decide +kernel) (Or.inl q380) (fun _ h => h) (fun v83 => ?_)
            refine gx_gR (O := "BorrowedLives$State") (nm := "hidden") (ds := "[I") (fin := true) C E dX1_life_86 (by decide +kernel) (Or.inr ⟨_, q299⟩) (fun _ h => h) (fun v86 => ?_)
            refine gj_iload_n C dX1_life_89 1 rfl ?_
            refine gx_iald C E dX1_life_90 (fun v90 => ?_)
            exact gx_iret C hQ hr dX1_life_91
          · refine gj_neg h11_3 ?_
            by_cases h11_4 : w32 a2 = 4
            · refine gj_pos h11_4 ?_
              refine gj_tin (tgt := 92) C 4 h11_4 dX1_life_11 (by decide) (by decide) rfl (by decide) ?_
              refine gx_aload_n C dX1_life_92 0 rfl ?_
              refine gx_gR (O := "BorrowedLives") (nm := "state") (ds := "LBorrowedLives$State;") (fin := true) C E dX1_life_93 (by decide +kernel) (Or.inl q380) (fun _ h => h) (fun v93 => ?_)
              refine gx_gR (O := "BorrowedLives$State") (nm := "self") (ds := "[I") (fin := true) C E dX1_life_96 (by decide +kernel) (Or.inr ⟨_, q303⟩) (fun _ h => h) (fun v96 => ?_)
              refine gj_iload_n C dX1_life_99 1 rfl ?_
              refine gx_iald C E dX1_life_100 (fun v100 => ?_)
              exact gx_iret C hQ hr dX1_life_101
            · refine gj_neg h11_4 ?_
              by_cases h11_5 : w32 a2 = 5
              · refine gj_pos h11_5 ?_
                refine gj_tin (tgt := 102) C 5 h11_5 dX1_life_11 (by decide) (by decide) rfl (by decide) ?_
                refine gx_aload_n C dX1_life_102 0 rfl ?_
                refine gx_gR (O := "BorrowedLives") (nm := "state") (ds := "LBorrowedLives$State;") (fin := true) C E dX1_life_103 (by decide +kernel) (Or.inl q380) (fun _ h => h) (fun v103 => ?_)
                refine gj_iload_n C dX1_life_106 1 rfl ?_
                refine gx_callVI (t0 := 4) (As := [.int (iI a1)]) (rest := []) C E rfl dX1_life_107 (mx4_harmOf (cx_l X) g v103 a1) (lw_V q1228 q1229 q1230 q131 q1231) hyx_X4_harmOf rfl hR (Nat.le_of_ble_eq_true rfl) (by decide) rfl rfl (Nat.zero_le _) (fun v107 => ?_)
                exact gx_iret C hQ hr dX1_life_110
              · refine gj_neg h11_5 ?_
                by_cases h11_6 : w32 a2 = 6
                · refine gj_pos h11_6 ?_
                  refine gj_tin (tgt := 111) C 6 h11_6 dX1_life_11 (by decide) (by decide) rfl (by decide) ?_
                  refine gx_aload_n C dX1_life_111 0 rfl ?_
                  refine gx_gR (O := "BorrowedLives") (nm := "state") (ds := "LBorrowedLives$State;") (fin := true) C E dX1_life_112 (by decide +kernel) (Or.inl q380) (fun _ h => h) (fun v112 => ?_)
                  refine gj_iload_n C dX1_life_115 1 rfl ?_
                  refine gx_callVI (t0 := 4) (As := [.int (iI a1)]) (rest := []) C E rfl dX1_life_116 (mx4_goodOf (cx_l X) g v112 a1) (lw_V q1233 q1234 q1235 q131 q1236) hyx_X4_goodOf rfl hR (Nat.le_of_ble_eq_true rfl) (by decide) rfl rfl (Nat.zero_le _) (fun v116 => ?_)
                  exact gx_iret C hQ hr dX1_life_119
                · refine gj_neg h11_6 ?_
                  refine gj_tout (tgt := 120) C dX1_life_11 (by omega) (by decide) ?_
                  refine gj_iconst C dX1_life_120 ?_
                  exact gx_iret C hQ hr dX1_life_121
  · refine gj_iconst C dX1_life_8 ?_
    exact gx_iret C hQ hr dX1_life_9
def x1_mayBe (a0 : Option Nat) (a1 a2 : Int) : PT Hp Int :=
  pite (w32 a1 = w32 a2) (
    pbnd (pzo 0) fun _ => pret 0) (
    pbnd (xrecv a0 1) fun _ =>
    pbnd (x1_person_2 a0 a1) fun v7 =>
    pbnd (xgIs v7 [6, 7, 8, 9] 5) fun v10 =>
    pbnd (x1_isIn v10 a2) fun v14 =>
    pite (w32 v14 = 0) (
      pbnd (pzo 1) fun _ => pret 1) (
      pbnd (pzo 0) fun _ => pret 0))
set_option maxHeartbeats 4000000 in
set_option maxRecDepth 100000 in
theorem mx1_mayBe (l : Launch) (g : XG) (a0 : Option Nat) (a1 a2 : Int) : XMet l g yX1_mayBe cX1_mayBe 3 (Option.some Jvm.ClassFile.FieldType.boolean) (4) [rv g a0, .int (iI a1), .int (iI a2)] (x1_mayBe a0 a1 a2) rvI := by
  refine gx_start (by decide +kernel) (by have e := lg_sl_len [rv g a0, .int (iI a1), .int (iI a2)]; simp only [List.map_cons, List.map_nil, List.sum_cons, List.sum_nil, rv_cat, cat_int, cat_long] at e; omega) (fun X Q σ0 hl C E hQ hR hr hnm => ?_)
  subst hl
  rw [show lv_args 0 [rv g a0, .int (iI a1), .int (iI a2)] = [(0, rv g a0), (1, .int (iI a1)), (2, .int (iI a2))] from by simp [lv_args, rv_cat, cat_int, cat_long]]
  show GJ X 3 (xWo g σ0 (cx_s X).heap) Q (x1_mayBe a0 a1 a2) 0 [(0, rv g a0), (1, .int (iI a1)), (2, .int (iI a2))] []
  unfold x1_mayBe
  refine gj_iload_n C dX1_mayBe_0 1 rfl ?_
  refine gj_iload_n C dX1_mayBe_1 2 rfl ?_
  refine gj_icmp_eq (tgt := 24) C dX1_mayBe_2 (by decide) rfl rfl (fun h2 => gj_pos h2 ?_) (fun h2 => gj_neg h2 ?_)
  · refine gj_iconst C dX1_mayBe_24 ?_
    exact gx_zret C hQ hr dX1_mayBe_25
  · refine gx_aload_n C dX1_mayBe_5 0 rfl ?_
    refine gj_iload_n C dX1_mayBe_6 1 rfl ?_
    refine gx_callVR (t0 := 1) (As := [.int (iI a1)]) (rest := []) C E rfl dX1_mayBe_7 (mx1_person_2 (cx_l X) g a0 a1) (lw_V q1200 q1202 qs30 q125 q1203) hyx_X1_person_2 rfl hR (Nat.le_of_ble_eq_true rfl) (by decide) rfl rfl (Nat.zero_le _) (fun v7 => ?_)
    refine gx_gIs (O := "BorrowedLives$Person") (nm := "barred") (ds := "I") (fin := false) C E dX1_mayBe_10 (by decide +kernel) (Or.inl q887) (fun _ h => h) (fun v10 => ?_)
    refine gj_iload_n C dX1_mayBe_13 2 rfl ?_
    refine gx_callSI (As := [.int (iI v10), .int (iI a2)]) (rest := []) C E dX1_mayBe_14 (mx1_isIn (cx_l X) g v10 a2) (lw_S q1245 q1025 q125 q1026) hyx_X1_isIn hR (Nat.le_of_ble_eq_true rfl) (by decide) rfl rfl (Nat.zero_le _) (fun v14 => ?_)
    refine gj_if_ne (tgt := 24) C dX1_mayBe_17 (by decide) (fun h17 => gj_neg h17 ?_) (fun h17 => gj_pos h17 ?_)
    · refine gj_iconst C dX1_mayBe_24 ?_
      exact gx_zret C hQ hr dX1_mayBe_25
    · refine gj_iconst C dX1_mayBe_20 ?_
      refine gj_goto (tgt := 25) C dX1_mayBe_21 (by decide) ?_
      exact gx_zret C hQ hr dX1_mayBe_25
def x1_may (a0 : Option Nat) (a1 a2 : Int) : PT Hp Int :=
  pbnd (xrecv a0 1) fun _ =>
  pbnd (x1_isPerson a0 a1) fun v2 =>
  pite (w32 v2 = 0) (
    pbnd (pzo 0) fun _ => pret 0) (
    pbnd (xrecv a0 1) fun _ =>
    pbnd (x1_isPerson a0 a2) fun v10 =>
    pite (w32 v10 = 0) (
      pbnd (pzo 0) fun _ => pret 0) (
      pbnd (xrecv a0 1) fun _ =>
      pbnd (x1_mayBe a0 a1 a2) fun v19 =>
      pite (w32 v19 = 0) (
        pbnd (pzo 0) fun _ => pret 0) (
        pbnd (pzo 1) fun _ => pret 1)))
set_option maxHeartbeats 4000000 in
set_option maxRecDepth 100000 in
theorem mx1_may (l : Launch) (g : XG) (a0 : Option Nat) (a1 a2 : Int) : XMet l g yX1_may cX1_may 3 (Option.some Jvm.ClassFile.FieldType.boolean) (5) [rv g a0, .int (iI a1), .int (iI a2)] (x1_may a0 a1 a2) rvI := by
  refine gx_start (by decide +kernel) (by have e := lg_sl_len [rv g a0, .int (iI a1), .int (iI a2)]; simp only [List.map_cons, List.map_nil, List.sum_cons, List.sum_nil, rv_cat, cat_int, cat_long] at e; omega) (fun X Q σ0 hl C E hQ hR hr hnm => ?_)
  subst hl
  rw [show lv_args 0 [rv g a0, .int (iI a1), .int (iI a2)] = [(0, rv g a0), (1, .int (iI a1)), (2, .int (iI a2))] from by simp [lv_args, rv_cat, cat_int, cat_long]]
  show GJ X 3 (xWo g σ0 (cx_s X).heap) Q (x1_may a0 a1 a2) 0 [(0, rv g a0), (1, .int (iI a1)), (2, .int (iI a2))] []
  unfold x1_may
  refine gx_aload_n C dX1_may_0 0 rfl ?_
  refine gj_iload_n C dX1_may_1 1 rfl ?_
  refine gx_callVI (t0 := 1) (As := [.int (iI a1)]) (rest := []) C E rfl dX1_may_2 (mx1_isPerson (cx_l X) g a0 a1) (lw_V q1188 q1190 qs28 q125 q1191) hyx_X1_isPerson rfl hR (Nat.le_of_ble_eq_true rfl) (by decide) rfl rfl (Nat.zero_le _) (fun v2 => ?_)
  refine gj_if_eq (tgt := 29) C dX1_may_5 (by decide) (fun h5 => gj_pos h5 ?_) (fun h5 => gj_neg h5 ?_)
  · refine gj_iconst C dX1_may_29 ?_
    exact gx_zret C hQ hr dX1_may_30
  · refine gx_aload_n C dX1_may_8 0 rfl ?_
    refine gj_iload_n C dX1_may_9 2 rfl ?_
    refine gx_callVI (t0 := 1) (As := [.int (iI a2)]) (rest := []) C E rfl dX1_may_10 (mx1_isPerson (cx_l X) g a0 a2) (lw_V q1188 q1190 qs28 q125 q1191) hyx_X1_isPerson rfl hR (Nat.le_of_ble_eq_true rfl) (by decide) rfl rfl (Nat.zero_le _) (fun v10 => ?_)
    refine gj_if_eq (tgt := 29) C dX1_may_13 (by decide) (fun h13 => gj_pos h13 ?_) (fun h13 => gj_neg h13 ?_)
    · refine gj_iconst C dX1_may_29 ?_
      exact gx_zret C hQ hr dX1_may_30
    · refine gx_aload_n C dX1_may_16 0 rfl ?_
      refine gj_iload_n C dX1_may_17 1 rfl ?_
      refine gj_iload_n C dX1_may_18 2 rfl ?_
      refine gx_callVI (t0 := 1) (As := [.int (iI a1), .int (iI a2)]) (rest := []) C E rfl dX1_may_19 (mx1_mayBe (cx_l X) g a0 a1 a2) (lw_V q1241 q1243 qs31 q125 q1244) hyx_X1_mayBe rfl hR (Nat.le_of_ble_eq_true rfl) (by decide) rfl rfl (Nat.zero_le _) (fun v19 => ?_)
      refine gj_if_eq (tgt := 29) C dX1_may_22 (by decide) (fun h22 => gj_pos h22 ?_) (fun h22 => gj_neg h22 ?_)
      · refine gj_iconst C dX1_may_29 ?_
        exact gx_zret C hQ hr dX1_may_30
      · refine gj_iconst C dX1_may_25 ?_
        refine gj_goto (tgt := 30) C dX1_may_26 (by decide) ?_
        exact gx_zret C hQ hr dX1_may_30
def x22_init (a0 a1 : Option Nat) : PT Hp Unit :=
  pbnd (xpRs a0 [19, 20, 21, 22, 23, 24] 1 a1) fun _ =>
  pbnd (xnn a0) fun _ =>
  pret ()
set_option maxHeartbeats 4000000 in
set_option maxRecDepth 100000 in
theorem mx22_init (l : Launch) (g : XG) (a0 a1 : Option Nat) : XMet l g yX22_init cX22_init 2 (Option.none : Option Jvm.ClassFile.FieldType) (1) [rv g a0, rv g a1] (x22_init a0 a1) rvV := by
  refine gx_start (by decide +kernel) (by have e := lg_sl_len [rv g a0, rv g a1]; simp only [List.map_cons, List.map_nil, List.sum_cons, List.sum_nil, rv_cat, cat_int, cat_long] at e; omega) (fun X Q σ0 hl C E hQ hR hr hnm => ?_)
  subst hl
  rw [show lv_args 0 [rv g a0, rv g a1] = [(0, rv g a0), (1, rv g a1)] from by simp [lv_args, rv_cat, cat_int, cat_long]]
  show GJ X 2 (xWo g σ0 (cx_s X).heap) Q (x22_init a0 a1) 0 [(0, rv g a0), (1, rv g a1)] []
  unfold x22_init
  refine gx_aload_n C dX22_init_0 0 rfl ?_
  refine gx_aload_n C dX22_init_1 1 rfl ?_
  refine gx_pRs (O := "BorrowedLives$Looker") (nm := "this$0") (ds := "LBorrowedLives;") (fin := true) (ty := (.object "BorrowedLives")) C E dX22_init_2 (by decide +kernel) (Or.inl q1274) (fun _ h => h) (fun _ => ⟨hnm, rfl⟩) (by decide +kernel) (by decide) ?_
  refine gx_aload_n C dX22_init_5 0 rfl ?_
  refine gx_objinit C E dX22_init_6 q1258 q180 q181 hR (Nat.le_of_ble_eq_true rfl) (Nat.zero_le _) ?_
  exact gx_vret C hQ hr dX22_init_9
def x23_init (a0 a1 : Option Nat) (a2 a3 : Int) : PT Hp Unit :=
  pbnd (xpR a0 19 5 a1) fun _ =>
  pbnd (xnn a0) fun _ =>
  pbnd (x22_init a0 a1) fun _ =>
  pbnd (xpI a0 19 2 (w32 a2)) fun _ =>
  pbnd (xpI a0 19 3 (w32 a3)) fun _ =>
  pret ()
set_option maxHeartbeats 4000000 in
set_option maxRecDepth 100000 in
theorem mx23_init (l : Launch) (g : XG) (a0 a1 : Option Nat) (a2 a3 : Int) : XMet l g yX23_init cX23_init 4 (Option.none : Option Jvm.ClassFile.FieldType) (2) [rv g a0, rv g a1, .int (iI a2), .int (iI a3)] (x23_init a0 a1 a2 a3) rvV := by
  refine gx_start (by decide +kernel) (by have e := lg_sl_len [rv g a0, rv g a1, .int (iI a2), .int (iI a3)]; simp only [List.map_cons, List.map_nil, List.sum_cons, List.sum_nil, rv_cat, cat_int, cat_long] at e; omega) (fun X Q σ0 hl C E hQ hR hr hnm => ?_)
  subst hl
  rw [show lv_args 0 [rv g a0, rv g a1, .int (iI a2), .int (iI a3)] = [(0, rv g a0), (1, rv g a1), (2, .int (iI a2)), (3, .int (iI a3))] from by simp [lv_args, rv_cat, cat_int, cat_long]]
  show GJ X 4 (xWo g σ0 (cx_s X).heap) Q (x23_init a0 a1 a2 a3) 0 [(0, rv g a0), (1, rv g a1), (2, .int (iI a2)), (3, .int (iI a3))] []
  unfold x23_init
  refine gx_aload_n C dX23_init_0 0 rfl ?_
  refine gx_aload_n C dX23_init_1 1 rfl ?_
  refine gx_pR (O := "BorrowedLives$Counts") (nm := "this$0") (ds := "LBorrowedLives;") (fin := true) (ty := (.object "BorrowedLives")) C E dX23_init_2 (by decide +kernel) (Or.inl q1263) (fun _ h => h) (fun _ => ⟨hnm, rfl⟩) (by decide +kernel) (by decide) ?_
  refine gx_aload_n C dX23_init_5 0 rfl ?_
  refine gx_aload_n C dX23_init_6 1 rfl ?_
  refine gx_callINV (As := [rv g a1]) (rest := []) C E dX23_init_7 (mx22_init (cx_l X) g a0 a1) (lw_meth q1257) q164 q1255 q1256 rfl hyx_X22_init hR (Nat.le_of_ble_eq_true rfl) (by decide) rfl rfl (Nat.zero_le _) ?_
  refine gx_aload_n C dX23_init_10 0 rfl ?_
  refine gj_iload_n C dX23_init_11 2 rfl ?_
  refine gj_nrmI ?_
  refine gx_pI (O := "BorrowedLives$Counts") (nm := "person") (ds := "I") (fin := true) (ty := .int) C E dX23_init_12 (by decide +kernel) (Or.inl q1259) (fun _ h => h) (fun _ => ⟨hnm, rfl⟩) (by decide +kernel) (inty_int _) ?_
  refine gx_aload_n C dX23_init_15 0 rfl ?_
  refine gj_iload_n C dX23_init_16 3 rfl ?_
  refine gj_nrmI ?_
  refine gx_pI (O := "BorrowedLives$Counts") (nm := "life") (ds := "I") (fin := true) (ty := .int) C E dX23_init_17 (by decide +kernel) (Or.inl q1260) (fun _ h => h) (fun _ => ⟨hnm, rfl⟩) (by decide +kernel) (inty_int _) ?_
  exact gx_vret C hQ hr dX23_init_20
def x23_sees (a0 a1 : Option Nat) : PT Hp Unit :=
  pbnd (xgI a0 19 3) fun v1 =>
  pite (w32 v1 < 0) (
    pret ()) (
    pbnd (xgI a0 19 3) fun v9 =>
    pbnd (xld a1 40 v9) fun v12 =>
    pbnd (xgI a0 19 2) fun v14 =>
    pite (w32 v12 = w32 v14) (
      pbnd (xgI a0 19 4) fun v22 =>
      pbnd (xpI a0 19 4 (w32 (v22 + 1))) fun _ =>
      pret ()) (
      pret ()))
set_option maxHeartbeats 4000000 in
set_option maxRecDepth 100000 in
theorem mx23_sees (l : Launch) (g : XG) (a0 a1 : Option Nat) : XMet l g yX23_sees cX23_sees 2 (Option.none : Option Jvm.ClassFile.FieldType) (0) [rv g a0, rv g a1] (x23_sees a0 a1) rvV := by
  refine gx_start (by decide +kernel) (by have e := lg_sl_len [rv g a0, rv g a1]; simp only [List.map_cons, List.map_nil, List.sum_cons, List.sum_nil, rv_cat, cat_int, cat_long] at e; omega) (fun X Q σ0 hl C E hQ hR hr hnm => ?_)
  subst hl
  rw [show lv_args 0 [rv g a0, rv g a1] = [(0, rv g a0), (1, rv g a1)] from by simp [lv_args, rv_cat, cat_int, cat_long]]
  show GJ X 2 (xWo g σ0 (cx_s X).heap) Q (x23_sees a0 a1) 0 [(0, rv g a0), (1, rv g a1)] []
  unfold x23_sees
  refine gx_aload_n C dX23_sees_0 0 rfl ?_
  refine gx_gI (O := "BorrowedLives$Counts") (nm := "life") (ds := "I") (fin := true) C E dX23_sees_1 (by decide +kernel) (Or.inl q1260) (fun _ h => h) (fun v1 => ?_)
  refine gj_if_lt (tgt := 30) C dX23_sees_4 (by decide) (fun h4 => gj_pos h4 ?_) (fun h4 => gj_neg h4 ?_)
  · exact gx_vret C hQ hr dX23_sees_30
  · refine gx_aload_n C dX23_sees_7 1 rfl ?_
    refine gx_aload_n C dX23_sees_8 0 rfl ?_
    refine gx_gI (O := "BorrowedLives$Counts") (nm := "life") (ds := "I") (fin := true) C E dX23_sees_9 (by decide +kernel) (Or.inl q1260) (fun _ h => h) (fun v9 => ?_)
    refine gx_iald C E dX23_sees_12 (fun v12 => ?_)
    refine gx_aload_n C dX23_sees_13 0 rfl ?_
    refine gx_gI (O := "BorrowedLives$Counts") (nm := "person") (ds := "I") (fin := true) C E dX23_sees_14 (by decide +kernel) (Or.inl q1259) (fun _ h => h) (fun v14 => ?_)
    refine gj_icmp_ne (tgt := 30) C dX23_sees_17 (by decide) rfl rfl (fun h17 => gj_neg h17 ?_) (fun h17 => gj_pos h17 ?_)
    · exact gx_vret C hQ hr dX23_sees_30
    · refine gx_aload_n C dX23_sees_20 0 rfl ?_
      refine gx_dup C dX23_sees_21 ?_
      refine gx_gI (O := "BorrowedLives$Counts") (nm := "hits") (ds := "I") (fin := false) C E dX23_sees_22 (by decide +kernel) (Or.inl q1261) (fun _ h => h) (fun v22 => ?_)
      refine gj_iconst C dX23_sees_25 ?_
      refine gj_iadd C dX23_sees_26 ?_
      refine gj_nrmI ?_
      refine gx_pI (O := "BorrowedLives$Counts") (nm := "hits") (ds := "I") (fin := false) (ty := .int) C E dX23_sees_27 (by decide +kernel) (Or.inl q1261) (fun _ h => h) (fun h => by cases h) (by decide +kernel) (inty_int _) ?_
      exact gx_vret C hQ hr dX23_sees_30
def x24_sees (a0 a1 : Option Nat) : PT Hp Unit :=
  pbnd (xgI a0 20 0) fun v1 =>
  pbnd (xgI a0 20 2) fun v5 =>
  pite (w32 v1 = w32 ((v5 + 1))) (
    pbnd (xgR a0 20 3) fun v15 =>
    pbnd (x1_copies a1 v15) fun _ =>
    pret ()) (
    pret ())
set_option maxHeartbeats 4000000 in
set_option maxRecDepth 100000 in
theorem mx24_sees (l : Launch) (g : XG) (a0 a1 : Option Nat) : XMet l g yX24_sees cX24_sees 2 (Option.none : Option Jvm.ClassFile.FieldType) (1) [rv g a0, rv g a1] (x24_sees a0 a1) rvV := by
  refine gx_start (by decide +kernel) (by have e := lg_sl_len [rv g a0, rv g a1]; simp only [List.map_cons, List.map_nil, List.sum_cons, List.sum_nil, rv_cat, cat_int, cat_long] at e; omega) (fun X Q σ0 hl C E hQ hR hr hnm => ?_)
  subst hl
  rw [show lv_args 0 [rv g a0, rv g a1] = [(0, rv g a0), (1, rv g a1)] from by simp [lv_args, rv_cat, cat_int, cat_long]]
  show GJ X 2 (xWo g σ0 (cx_s X).heap) Q (x24_sees a0 a1) 0 [(0, rv g a0), (1, rv g a1)] []
  unfold x24_sees
  refine gx_aload_n C dX24_sees_0 0 rfl ?_
  refine gx_gI (O := "BorrowedLives$Looker") (nm := "lots") (ds := "I") (fin := false) C E dX24_sees_1 (by decide +kernel) (Or.inl q1264) (fun x h => u_same (C.2.2.2.2.2 _ q1265) x h) (fun v1 => ?_)
  refine gx_aload_n C dX24_sees_4 0 rfl ?_
  refine gx_gI (O := "BorrowedLives$Takes") (nm := "place") (ds := "I") (fin := true) C E dX24_sees_5 (by decide +kernel) (Or.inl q1475) (fun _ h => h) (fun v5 => ?_)
  refine gj_iconst C dX24_sees_8 ?_
  refine gj_iadd C dX24_sees_9 ?_
  refine gj_icmp_ne (tgt := 21) C dX24_sees_10 (by decide) rfl rfl (fun h10 => gj_neg h10 ?_) (fun h10 => gj_pos h10 ?_)
  · exact gx_vret C hQ hr dX24_sees_21
  · refine gx_aload_n C dX24_sees_13 1 rfl ?_
    refine gx_aload_n C dX24_sees_14 0 rfl ?_
    refine gx_gR (O := "BorrowedLives$Takes") (nm := "taken") (ds := "[I") (fin := true) C E dX24_sees_15 (by decide +kernel) (Or.inl q1477) (fun _ h => h) (fun v15 => ?_)
    refine gx_callSNV (As := [rv g a1, rv g v15]) (rest := []) C E dX24_sees_18 (mx1_copies (cx_l X) g a1 v15) (lw_meth q1312) q125 q1438 q1311 hyx_X1_copies hR (Nat.le_of_ble_eq_true rfl) (by decide) rfl rfl (Nat.zero_le _) ?_
    exact gx_vret C hQ hr dX24_sees_21
def x3_sign (a0 : Option Nat) : PT Hp Int :=
  pbnd (xgI a0 3 2) fun v1 =>
  pite (w32 v1 < 0) (
    pret 50) (
    pbnd (xgI a0 3 2) fun v13 =>
    pret v13)
set_option maxHeartbeats 4000000 in
set_option maxRecDepth 100000 in
theorem mx3_sign (l : Launch) (g : XG) (a0 : Option Nat) : XMet l g yX3_sign cX3_sign 1 (Option.some Jvm.ClassFile.FieldType.int) (0) [rv g a0] (x3_sign a0) rvI := by
  refine gx_start (by decide +kernel) (by have e := lg_sl_len [rv g a0]; simp only [List.map_cons, List.map_nil, List.sum_cons, List.sum_nil, rv_cat, cat_int, cat_long] at e; omega) (fun X Q σ0 hl C E hQ hR hr hnm => ?_)
  subst hl
  rw [show lv_args 0 [rv g a0] = [(0, rv g a0)] from by simp [lv_args, rv_cat, cat_int, cat_long]]
  show GJ X 1 (xWo g σ0 (cx_s X).heap) Q (x3_sign a0) 0 [(0, rv g a0)] []
  unfold x3_sign
  refine gx_aload_n C dX3_sign_0 0 rfl ?_
  refine gx_gI (O := "BorrowedLives$Town") (nm := "sign") (ds := "I") (fin := false) C E dX3_sign_1 (by decide +kernel) (Or.inl q257) (fun _ h => h) (fun v1 => ?_)
  refine gj_if_ge (tgt := 12) C dX3_sign_4 (by decide) (fun h4 => gj_neg h4 ?_) (fun h4 => gj_pos h4 ?_)
  · refine gx_aload_n C dX3_sign_12 0 rfl ?_
    refine gx_gI (O := "BorrowedLives$Town") (nm := "sign") (ds := "I") (fin := false) C E dX3_sign_13 (by decide +kernel) (Or.inl q257) (fun _ h => h) (fun v13 => ?_)
    exact gx_iret C hQ hr dX3_sign_16
  · refine gj_bipush C dX3_sign_7 rfl ?_
    refine gj_goto (tgt := 16) C dX3_sign_9 (by decide) ?_
    exact gx_iret C hQ hr dX3_sign_16
def x4_goes_b2 (a0 a1 : Option Nat) (a2 : Int) (bk2 : (Int) → PT Hp Unit) : PT Hp Unit :=
  pite (w32 a2 < 6) (
    pbnd (xgR a0 4 6) fun v9 =>
    pbnd (xld a1 40 a2) fun v15 =>
    pbnd (xst v9 40 a2 v15) fun _ =>
    pbnd (xgR a0 4 4) fun v18 =>
    pbnd (xgR a0 4 0) fun v23 =>
    pbnd (xld v23 40 a2) fun v27 =>
    pbnd (xgR a0 4 1) fun v29 =>
    pbnd (xld v29 40 a2) fun v33 =>
    pbnd (xst v18 40 a2 (w32 (v27 - v33))) fun _ =>
    pbnd (xgR a0 4 5) fun v37 =>
    pbnd (xgR a0 4 2) fun v42 =>
    pbnd (xld v42 40 a2) fun v46 =>
    pbnd (xst v37 40 a2 v46) fun _ =>
    bk2 (a2 + 1)) (
    pbnd (pzo 1) fun _ =>
    pbnd (xpI a0 4 7 1) fun _ =>
    pbnd (xpI a0 4 8 0) fun _ =>
    pret ())
def x4_goes_l2 (a0 a1 : Option Nat) (a2 : Int) : PT Hp Unit :=
  ploop (fun (s : (Int)) bk2 => x4_goes_b2 a0 a1 s bk2) (a2)
def x4_goes (a0 a1 : Option Nat) : PT Hp Unit :=
  x4_goes_l2 a0 a1 0
set_option maxHeartbeats 4000000 in
set_option maxRecDepth 100000 in
theorem mx4_goes (l : Launch) (g : XG) (a0 a1 : Option Nat) : XMet l g yX4_goes cX4_goes 3 (Option.none : Option Jvm.ClassFile.FieldType) (0) [rv g a0, rv g a1] (x4_goes a0 a1) rvV := by
  refine gx_start (by decide +kernel) (by have e := lg_sl_len [rv g a0, rv g a1]; simp only [List.map_cons, List.map_nil, List.sum_cons, List.sum_nil, rv_cat, cat_int, cat_long] at e; omega) (fun X Q σ0 hl C E hQ hR hr hnm => ?_)
  subst hl
  rw [show lv_args 0 [rv g a0, rv g a1] = [(0, rv g a0), (1, rv g a1)] from by simp [lv_args, rv_cat, cat_int, cat_long]]
  show GJ X 3 (xWo g σ0 (cx_s X).heap) Q (x4_goes a0 a1) 0 [(0, rv g a0), (1, rv g a1)] []
  have J2 : ∀ (a0 a1 : Option Nat) (a2 : Int), GJ X 3 (xWo g σ0 (cx_s X).heap) Q (x4_goes_l2 a0 a1 a2) 2 [(0, rv g a0), (1, rv g a1), (2, .int (iI a2))] [] := by
    intro a0 a1 a2
    unfold x4_goes_l2
    refine gj_loop (fun (s : (Int)) => [(0, rv g a0), (1, rv g a1), (2, .int (iI s))]) (a2) (fun bk2 hb2 s => ?_)
    obtain ⟨a2, rfl⟩ : ∃ z, z = s := ⟨s, rfl⟩
    show GJ X 3 (xWo g σ0 (cx_s X).heap) Q (x4_goes_b2 a0 a1 a2 bk2) 2 [(0, rv g a0), (1, rv g a1), (2, .int (iI a2))] []
    unfold x4_goes_b2
    refine gj_iload_n C dX4_goes_2 2 rfl ?_
    refine gj_bipush C dX4_goes_3 rfl ?_
    refine gj_icmp_ge (tgt := 54) (b' := 6) C dX4_goes_5 (by decide) rfl (by decide) (fun h5 => gj_neg h5 ?_) (fun h5 => gj_pos h5 ?_)
    · refine gx_aload_n C dX4_goes_54 0 rfl ?_
      refine gj_iconst C dX4_goes_55 ?_
      refine gx_pzo (fun hz56 => ?_)
      refine gx_pI (O := "BorrowedLives$State") (nm := "away") (ds := "Z") (fin := false) (ty := .boolean) C E dX4_goes_56 (by decide +kernel) (Or.inl q308) (fun _ h => h) (fun h => by cases h) (by decide +kernel) (inty_z hz56) ?_
      refine gx_aload_n C dX4_goes_59 0 rfl ?_
      refine gj_iconst C dX4_goes_60 ?_
      refine gx_pI (O := "BorrowedLives$State") (nm := "days") (ds := "I") (fin := false) (ty := .int) C E dX4_goes_61 (by decide +kernel) (Or.inl q311) (fun _ h => h) (fun h => by cases h) (by decide +kernel) (inty_int _) ?_
      exact gx_vret C hQ hr dX4_goes_64
    · refine gx_aload_n C dX4_goes_8 0 rfl ?_
      refine gx_gR (O := "BorrowedLives$State") (nm := "self") (ds := "[I") (fin := true) C E dX4_goes_9 (by decide +kernel) (Or.inl q302) (fun _ h => h) (fun v9 => ?_)
      refine gj_iload_n C dX4_goes_12 2 rfl ?_
      refine gx_aload_n C dX4_goes_13 1 rfl ?_
      refine gj_iload_n C dX4_goes_14 2 rfl ?_
      refine gx_iald C E dX4_goes_15 (fun v15 => ?_)
      refine gx_iast C E dX4_goes_16 ?_
      refine gx_aload_n C dX4_goes_17 0 rfl ?_
      refine gx_gR (O := "BorrowedLives$State") (nm := "had") (ds := "[I") (fin := true) C E dX4_goes_18 (by decide +kernel) (Or.inl q300) (fun _ h => h) (fun v18 => ?_)
      refine gj_iload_n C dX4_goes_21 2 rfl ?_
      refine gx_aload_n C dX4_goes_22 0 rfl ?_
      refine gx_gR (O := "BorrowedLives$State") (nm := "purse") (ds := "[I") (fin := true) C E dX4_goes_23 (by decide +kernel) (Or.inl q290) (fun _ h => h) (fun v23 => ?_)
      refine gj_iload_n C dX4_goes_26 2 rfl ?_
      refine gx_iald C E dX4_goes_27 (fun v27 => ?_)
      refine gx_aload_n C dX4_goes_28 0 rfl ?_
      refine gx_gR (O := "BorrowedLives$State") (nm := "debt") (ds := "[I") (fin := true) C E dX4_goes_29 (by decide +kernel) (Or.inl q293) (fun _ h => h) (fun v29 => ?_)
      refine gj_iload_n C dX4_goes_32 2 rfl ?_
      refine gx_iald C E dX4_goes_33 (fun v33 => ?_)
      refine gj_isub C dX4_goes_34 ?_
      refine gj_nrmI ?_
      refine gx_iast C E dX4_goes_35 ?_
      refine gx_aload_n C dX4_goes_36 0 rfl ?_
      refine gx_gR (O := "BorrowedLives$State") (nm := "neat") (ds := "[I") (fin := true) C E dX4_goes_37 (by decide +kernel) (Or.inl q301) (fun _ h => h) (fun v37 => ?_)
      refine gj_iload_n C dX4_goes_40 2 rfl ?_
      refine gx_aload_n C dX4_goes_41 0 rfl ?_
      refine gx_gR (O := "BorrowedLives$State") (nm := "home") (ds := "[I") (fin := true) C E dX4_goes_42 (by decide +kernel) (Or.inl q295) (fun _ h => h) (fun v42 => ?_)
      refine gj_iload_n C dX4_goes_45 2 rfl ?_
      refine gx_iald C E dX4_goes_46 (fun v46 => ?_)
      refine gx_iast C E dX4_goes_47 ?_
      refine gj_iinc (L' := [(2, .int (iI ((a2 + 1)))), (0, rv g a0), (1, rv g a1)]) C dX4_goes_48 2 rfl (by decide) (by simp [List.filter, rv_cat, cat_int, cat_long, fin4_3]) ?_
      refine gj_goto (tgt := 2) C dX4_goes_51 (by decide) ?_
      exact gj_to [1, 2, 0] (hb2 (a2 + 1)) rfl
  unfold x4_goes
  refine gj_iconst C dX4_goes_0 ?_
  refine gj_istore_n (L' := [(2, .int (iI 0)), (0, rv g a0), (1, rv g a1)]) C dX4_goes_1 (by decide) (by simp [List.filter, rv_cat, cat_int, cat_long, fin4_3]) ?_
  exact gj_to [1, 2, 0] (J2 a0 a1 0) rfl
def x7_findsHidden (a0 : Option Nat) : PT Hp Int :=
  pbnd (pzo 0) fun _ => pret 0
set_option maxHeartbeats 4000000 in
set_option maxRecDepth 100000 in
theorem mx7_findsHidden (l : Launch) (g : XG) (a0 : Option Nat) : XMet l g yX7_findsHidden cX7_findsHidden 1 (Option.some Jvm.ClassFile.FieldType.boolean) (0) [rv g a0] (x7_findsHidden a0) rvI := by
  refine gx_start (by decide +kernel) (by have e := lg_sl_len [rv g a0]; simp only [List.map_cons, List.map_nil, List.sum_cons, List.sum_nil, rv_cat, cat_int, cat_long] at e; omega) (fun X Q σ0 hl C E hQ hR hr hnm => ?_)
  subst hl
  rw [show lv_args 0 [rv g a0] = [(0, rv g a0)] from by simp [lv_args, rv_cat, cat_int, cat_long]]
  show GJ X 1 (xWo g σ0 (cx_s X).heap) Q (x7_findsHidden a0) 0 [(0, rv g a0)] []
  unfold x7_findsHidden
  refine gj_iconst C dX7_findsHidden_0 ?_
  exact gx_zret C hQ hr dX7_findsHidden_1
def x9_findsHidden (a0 : Option Nat) : PT Hp Int :=
  pbnd (pzo 1) fun _ => pret 1
set_option maxHeartbeats 4000000 in
set_option maxRecDepth 100000 in
theorem mx9_findsHidden (l : Launch) (g : XG) (a0 : Option Nat) : XMet l g yX9_findsHidden cX9_findsHidden 1 (Option.some Jvm.ClassFile.FieldType.boolean) (0) [rv g a0] (x9_findsHidden a0) rvI := by
  refine gx_start (by decide +kernel) (by have e := lg_sl_len [rv g a0]; simp only [List.map_cons, List.map_nil, List.sum_cons, List.sum_nil, rv_cat, cat_int, cat_long] at e; omega) (fun X Q σ0 hl C E hQ hR hr hnm => ?_)
  subst hl
  rw [show lv_args 0 [rv g a0] = [(0, rv g a0)] from by simp [lv_args, rv_cat, cat_int, cat_long]]
  show GJ X 1 (xWo g σ0 (cx_s X).heap) Q (x9_findsHidden a0) 0 [(0, rv g a0)] []
  unfold x9_findsHidden
  refine gj_iconst C dX9_findsHidden_0 ?_
  exact gx_zret C hQ hr dX9_findsHidden_1
def x1_between (a0 a1 a2 : Int) : PT Hp Int :=
  pret (w32 (zmax a1 (zmin a2 a0)))
set_option maxHeartbeats 4000000 in
set_option maxRecDepth 100000 in
theorem mx1_between (l : Launch) (g : XG) (a0 a1 a2 : Int) : XMet l g yX1_between cX1_between 3 (Option.some Jvm.ClassFile.FieldType.int) (1) [.int (iI a0), .int (iI a1), .int (iI a2)] (x1_between a0 a1 a2) rvI := by
  refine gx_start (by decide +kernel) (by have e := lg_sl_len [.int (iI a0), .int (iI a1), .int (iI a2)]; simp only [List.map_cons, List.map_nil, List.sum_cons, List.sum_nil, rv_cat, cat_int, cat_long] at e; omega) (fun X Q σ0 hl C E hQ hR hr hnm => ?_)
  subst hl
  show GJ X 3 (xWo g σ0 (cx_s X).heap) Q (x1_between a0 a1 a2) 0 [(0, .int (iI a0)), (1, .int (iI a1)), (2, .int (iI a2))] []
  unfold x1_between
  refine gj_iload_n C dX1_between_0 1 rfl ?_
  refine gj_iload_n C dX1_between_1 2 rfl ?_
  refine gj_iload_n C dX1_between_2 0 rfl ?_
  refine gx_min C E dX1_between_3 q1361 q517 q137 q518 hR (Nat.le_of_ble_eq_true rfl) (Nat.le_of_ble_eq_true rfl) ?_
  refine gx_max C E dX1_between_6 q1343 q514 q137 q515 hR (Nat.le_of_ble_eq_true rfl) (Nat.zero_le _) ?_
  refine gj_nrmI ?_
  exact gx_iret C hQ hr dX1_between_9
def x7_spends (a0 : Option Nat) (a1 : Int) : PT Hp Int :=
  pret (w32 a1)
set_option maxHeartbeats 4000000 in
set_option maxRecDepth 100000 in
theorem mx7_spends (l : Launch) (g : XG) (a0 : Option Nat) (a1 : Int) : XMet l g yX7_spends cX7_spends 2 (Option.some Jvm.ClassFile.FieldType.int) (0) [rv g a0, .int (iI a1)] (x7_spends a0 a1) rvI := by
  refine gx_start (by decide +kernel) (by have e := lg_sl_len [rv g a0, .int (iI a1)]; simp only [List.map_cons, List.map_nil, List.sum_cons, List.sum_nil, rv_cat, cat_int, cat_long] at e; omega) (fun X Q σ0 hl C E hQ hR hr hnm => ?_)
  subst hl
  rw [show lv_args 0 [rv g a0, .int (iI a1)] = [(0, rv g a0), (1, .int (iI a1))] from by simp [lv_args, rv_cat, cat_int, cat_long]]
  show GJ X 2 (xWo g σ0 (cx_s X).heap) Q (x7_spends a0 a1) 0 [(0, rv g a0), (1, .int (iI a1))] []
  unfold x7_spends
  refine gj_iload_n C dX7_spends_0 1 rfl ?_
  refine gj_nrmI ?_
  exact gx_iret C hQ hr dX7_spends_1
def x8_spends (a0 : Option Nat) (a1 : Int) : PT Hp Int :=
  pbnd (pnz 2) fun _ =>
  pret (zdiv a1 2)
set_option maxHeartbeats 4000000 in
set_option maxRecDepth 100000 in
theorem mx8_spends (l : Launch) (g : XG) (a0 : Option Nat) (a1 : Int) : XMet l g yX8_spends cX8_spends 2 (Option.some Jvm.ClassFile.FieldType.int) (0) [rv g a0, .int (iI a1)] (x8_spends a0 a1) rvI := by
  refine gx_start (by decide +kernel) (by have e := lg_sl_len [rv g a0, .int (iI a1)]; simp only [List.map_cons, List.map_nil, List.sum_cons, List.sum_nil, rv_cat, cat_int, cat_long] at e; omega) (fun X Q σ0 hl C E hQ hR hr hnm => ?_)
  subst hl
  rw [show lv_args 0 [rv g a0, .int (iI a1)] = [(0, rv g a0), (1, .int (iI a1))] from by simp [lv_args, rv_cat, cat_int, cat_long]]
  show GJ X 2 (xWo g σ0 (cx_s X).heap) Q (x8_spends a0 a1) 0 [(0, rv g a0), (1, .int (iI a1))] []
  unfold x8_spends
  refine gj_iload_n C dX8_spends_0 1 rfl ?_
  refine gj_iconst C dX8_spends_1 ?_
  refine gj_nz (fun hz2 => ?_)
  refine gj_idiv C dX8_spends_2 hz2 ?_
  exact gx_iret C hQ hr dX8_spends_3
def x10_paysDebts (a0 : Option Nat) : PT Hp Int :=
  pbnd (pzo 1) fun _ => pret 1
set_option maxHeartbeats 4000000 in
set_option maxRecDepth 100000 in
theorem mx10_paysDebts (l : Launch) (g : XG) (a0 : Option Nat) : XMet l g yX10_paysDebts cX10_paysDebts 1 (Option.some Jvm.ClassFile.FieldType.boolean) (0) [rv g a0] (x10_paysDebts a0) rvI := by
  refine gx_start (by decide +kernel) (by have e := lg_sl_len [rv g a0]; simp only [List.map_cons, List.map_nil, List.sum_cons, List.sum_nil, rv_cat, cat_int, cat_long] at e; omega) (fun X Q σ0 hl C E hQ hR hr hnm => ?_)
  subst hl
  rw [show lv_args 0 [rv g a0] = [(0, rv g a0)] from by simp [lv_args, rv_cat, cat_int, cat_long]]
  show GJ X 1 (xWo g σ0 (cx_s X).heap) Q (x10_paysDebts a0) 0 [(0, rv g a0)] []
  unfold x10_paysDebts
  refine gj_iconst C dX10_paysDebts_0 ?_
  exact gx_zret C hQ hr dX10_paysDebts_1
def x7_paysDebts (a0 : Option Nat) : PT Hp Int :=
  pbnd (pzo 0) fun _ => pret 0
set_option maxHeartbeats 4000000 in
set_option maxRecDepth 100000 in
theorem mx7_paysDebts (l : Launch) (g : XG) (a0 : Option Nat) : XMet l g yX7_paysDebts cX7_paysDebts 1 (Option.some Jvm.ClassFile.FieldType.boolean) (0) [rv g a0] (x7_paysDebts a0) rvI := by
  refine gx_start (by decide +kernel) (by have e := lg_sl_len [rv g a0]; simp only [List.map_cons, List.map_nil, List.sum_cons, List.sum_nil, rv_cat, cat_int, cat_long] at e; omega) (fun X Q σ0 hl C E hQ hR hr hnm => ?_)
  subst hl
  rw [show lv_args 0 [rv g a0] = [(0, rv g a0)] from by simp [lv_args, rv_cat, cat_int, cat_long]]
  show GJ X 1 (xWo g σ0 (cx_s X).heap) Q (x7_paysDebts a0) 0 [(0, rv g a0)] []
  unfold x7_paysDebts
  refine gj_iconst C dX7_paysDebts_0 ?_
  exact gx_zret C hQ hr dX7_paysDebts_1
def x1_poorest_j43 (a0 a1 : Option Nat) (a2 a3 a4 : Int) (bk5 : (Int × Int) → PT Hp Int) : PT Hp Int :=
  bk5 (a3, a4 + 1)
def x1_poorest_j40 (a0 a1 : Option Nat) (a2 a4 : Int) (bk5 : (Int × Int) → PT Hp Int) : PT Hp Int :=
  x1_poorest_j43 a0 a1 a2 a4 a4 bk5
def x1_poorest_b5 (a0 a1 : Option Nat) (a2 : Int) (a3 a4 : Int) (bk5 : (Int × Int) → PT Hp Int) : PT Hp Int :=
  pbnd (xrecv a0 1) fun _ =>
  pbnd (x1_people a0) fun v8 =>
  pite (w32 a4 < w32 v8) (
    pite (w32 a4 = w32 a2) (
      x1_poorest_j43 a0 a1 a2 a3 a4 bk5) (
      pite (w32 a3 < 0) (
        x1_poorest_j40 a0 a1 a2 a4 bk5) (
        pbnd (xgR a1 4 0) fun v25 =>
        pbnd (xld v25 40 a4) fun v30 =>
        pbnd (xgR a1 4 0) fun v32 =>
        pbnd (xld v32 40 a3) fun v36 =>
        pite (w32 v30 < w32 v36) (
          x1_poorest_j40 a0 a1 a2 a4 bk5) (
          x1_poorest_j43 a0 a1 a2 a3 a4 bk5)))) (
    pret (w32 a3))
def x1_poorest_l5 (a0 a1 : Option Nat) (a2 a3 a4 : Int) : PT Hp Int :=
  ploop (fun (s : (Int × Int)) bk5 => x1_poorest_b5 a0 a1 a2 s.1 s.2 bk5) (a3, a4)
def x1_poorest (a0 a1 : Option Nat) (a2 : Int) : PT Hp Int :=
  x1_poorest_l5 a0 a1 a2 (-1) 0
set_option maxHeartbeats 4000000 in
set_option maxRecDepth 100000 in
theorem mx1_poorest (l : Launch) (g : XG) (a0 a1 : Option Nat) (a2 : Int) : XMet l g yX1_poorest cX1_poorest 5 (Option.some Jvm.ClassFile.FieldType.int) (2) [rv g a0, rv g a1, .int (iI a2)] (x1_poorest a0 a1 a2) rvI := by
  refine gx_start (by decide +kernel) (by have e := lg_sl_len [rv g a0, rv g a1, .int (iI a2)]; simp only [List.map_cons, List.map_nil, List.sum_cons, List.sum_nil, rv_cat, cat_int, cat_long] at e; omega) (fun X Q σ0 hl C E hQ hR hr hnm => ?_)
  subst hl
  rw [show lv_args 0 [rv g a0, rv g a1, .int (iI a2)] = [(0, rv g a0), (1, rv g a1), (2, .int (iI a2))] from by simp [lv_args, rv_cat, cat_int, cat_long]]
  show GJ X 5 (xWo g σ0 (cx_s X).heap) Q (x1_poorest a0 a1 a2) 0 [(0, rv g a0), (1, rv g a1), (2, .int (iI a2))] []
  have J5 : ∀ (a0 a1 : Option Nat) (a2 a3 a4 : Int), GJ X 5 (xWo g σ0 (cx_s X).heap) Q (x1_poorest_l5 a0 a1 a2 a3 a4) 5 [(0, rv g a0), (1, rv g a1), (2, .int (iI a2)), (3, .int (iI a3)), (4, .int (iI a4))] [] := by
    intro a0 a1 a2 a3 a4
    unfold x1_poorest_l5
    refine gj_loop (fun (s : (Int × Int)) => [(0, rv g a0), (1, rv g a1), (2, .int (iI a2)), (3, .int (iI (s.1))), (4, .int (iI (s.2)))]) (a3, a4) (fun bk5 hb5 s => ?_)
    obtain ⟨a3, a4⟩ := s
    show GJ X 5 (xWo g σ0 (cx_s X).heap) Q (x1_poorest_b5 a0 a1 a2 a3 a4 bk5) 5 [(0, rv g a0), (1, rv g a1), (2, .int (iI a2)), (3, .int (iI a3)), (4, .int (iI a4))] []
    have J43 : ∀ (a3 a4 : Int), GJ X 5 (xWo g σ0 (cx_s X).heap) Q (x1_poorest_j43 a0 a1 a2 a3 a4 bk5) 43 [(0, rv g a0), (1, rv g a1), (2, .int (iI a2)), (3, .int (iI a3)), (4, .int (iI a4))] [] := by
      intro a3 a4
      unfold x1_poorest_j43
      refine gj_iinc (L' := [(4, _), (0, _), (1, _), (2, _), (3, _)]) C dX1_poorest_43 4 rfl (by decide) rfl ?_
      refine gj_goto (tgt := 5) C dX1_poorest_46 (by decide) ?_
      exact gj_to [1, 2, 3, 4, 0] (hb5 (a3, a4 + 1)) rfl
    have J40 : ∀ (a4 : Int), GJ X 5 (xWo g σ0 (cx_s X).heap) Q (x1_poorest_j40 a0 a1 a2 a4 bk5) 40 [(0, rv g a0), (1, rv g a1), (2, .int (iI a2)), (4, .int (iI a4))] [] := by
      intro a4
      unfold x1_poorest_j40
      refine gj_iload C dX1_poorest_40 3 rfl ?_
      refine gj_istore_n (L' := [(3, _), (0, _), (1, _), (2, _), (4, _)]) C dX1_poorest_42 (by decide) rfl ?_
      exact gj_to [1, 2, 3, 0, 4] (J43 a4 a4) rfl
    unfold x1_poorest_b5
    refine gj_iload C dX1_poorest_5 4 rfl ?_
    refine gx_aload_n C dX1_poorest_7 0 rfl ?_
    refine gx_callVI (t0 := 1) (As := []) (rest := [.int (iI a4)]) C E rfl dX1_poorest_8 (mx1_people (cx_l X) g a0) (lw_V q1192 q1194 qs29 q125 q1195) hyx_X1_people rfl hR (Nat.le_of_ble_eq_true rfl) (by decide) rfl rfl (Nat.le_of_ble_eq_true rfl) (fun v8 => ?_)
    refine gj_icmp_ge (tgt := 49) C dX1_poorest_11 (by decide) rfl rfl (fun h11 => gj_neg h11 ?_) (fun h11 => gj_pos h11 ?_)
    · refine gj_iload_n C dX1_poorest_49 3 rfl ?_
      refine gj_nrmI ?_
      exact gx_iret C hQ hr dX1_poorest_50
    · refine gj_iload C dX1_poorest_14 4 rfl ?_
      refine gj_iload_n C dX1_poorest_16 2 rfl ?_
      refine gj_icmp_eq (tgt := 43) C dX1_poorest_17 (by decide) rfl rfl (fun h17 => gj_pos h17 ?_) (fun h17 => gj_neg h17 ?_)
      · exact gj_to [0, 1, 2, 3, 4] (J43 a3 a4) rfl
      · refine gj_iload_n C dX1_poorest_20 3 rfl ?_
        refine gj_if_lt (tgt := 40) C dX1_poorest_21 (by decide) (fun h21 => gj_pos h21 ?_) (fun h21 => gj_neg h21 ?_)
        · exact gj_to [0, 1, 2, 4] (J40 a4) rfl
        · refine gx_aload_n C dX1_poorest_24 1 rfl ?_
          refine gx_gR (O := "BorrowedLives$State") (nm := "purse") (ds := "[I") (fin := true) C E dX1_poorest_25 (by decide +kernel) (Or.inr ⟨_, q292⟩) (fun _ h => h) (fun v25 => ?_)
          refine gj_iload C dX1_poorest_28 4 rfl ?_
          refine gx_iald C E dX1_poorest_30 (fun v30 => ?_)
          refine gx_aload_n C dX1_poorest_31 1 rfl ?_
          refine gx_gR (O := "BorrowedLives$State") (nm := "purse") (ds := "[I") (fin := true) C E dX1_poorest_32 (by decide +kernel) (Or.inr ⟨_, q292⟩) (fun _ h => h) (fun v32 => ?_)
          refine gj_iload_n C dX1_poorest_35 3 rfl ?_
          refine gx_iald C E dX1_poorest_36 (fun v36 => ?_)
          refine gj_icmp_ge (tgt := 43) C dX1_poorest_37 (by decide) rfl rfl (fun h37 => gj_neg h37 ?_) (fun h37 => gj_pos h37 ?_)
          · exact gj_to [0, 1, 2, 3, 4] (J43 a3 a4) rfl
          · exact gj_to [0, 1, 2, 4] (J40 a4) rfl
  unfold x1_poorest
  refine gj_iconst C dX1_poorest_0 ?_
  refine gj_istore_n (L' := [(3, _), (0, _), (1, _), (2, _)]) C dX1_poorest_1 (by decide) rfl ?_
  refine gj_iconst C dX1_poorest_2 ?_
  refine gj_istore (L' := [(4, _), (3, _), (0, _), (1, _), (2, _)]) C dX1_poorest_3 (by decide) rfl ?_
  exact gj_to [2, 3, 4, 1, 0] (J5 a0 a1 a2 (-1) 0) rfl
