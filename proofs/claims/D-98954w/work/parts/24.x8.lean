/-! THE COMPONENT: its methods as pure programs, and that the machine runs so (X1.count): printed by genx.py -/
def x1_count (a0 : Option Nat) (a1 : Int) : PT Hp Int :=
  pite (w32 a1 = 0) (
    pbnd (xrecv a0 1) fun _ =>
    pbnd (x1_people a0) fun v69 =>
    pret v69) (
    pite (w32 a1 = 1) (
      pbnd (xgR a0 1 2) fun v74 =>
      pbnd (xgI v74 3 1) fun v77 =>
      pret v77) (
      pite (w32 a1 = 2) (
        pbnd (xgR a0 1 2) fun v82 =>
        pbnd (xrecv v82 3) fun _ =>
        pbnd (x3_sign v82) fun v85 =>
        pret v85) (
        pite (w32 a1 = 3) (
          pbnd (xgR a0 1 4) fun v90 =>
          pbnd (xgI v90 4 7) fun v93 =>
          plet (if w32 v93 = 0 then 0 else 1) fun d104 =>
          pret (w32 d104)) (
          pite (w32 a1 = 4) (
            pbnd (xgR a0 1 4) fun v106 =>
            pbnd (xgI v106 4 8) fun v109 =>
            pret v109) (
            pite (w32 a1 = 5) (
              pbnd (xgR a0 1 4) fun v114 =>
              pbnd (xgI v114 4 9) fun v117 =>
              pret v117) (
              pite (w32 a1 = 6) (
                pbnd (xgR a0 1 4) fun v122 =>
                pbnd (xgI v122 4 10) fun v125 =>
                pret v125) (
                pite (w32 a1 = 7) (
                  pbnd (xgR a0 1 4) fun v130 =>
                  pbnd (xgR v130 4 0) fun v133 =>
                  pbnd (x1_sum v133) fun v136 =>
                  pret v136) (
                  pite (w32 a1 = 8) (
                    pbnd (xgR a0 1 4) fun v141 =>
                    pbnd (xgR v141 4 1) fun v144 =>
                    pbnd (x1_sum v144) fun v147 =>
                    pret v147) (
                    pite (w32 a1 = 9) (
                      pbnd (xgR a0 1 3) fun v152 =>
                      pbnd (xrecv v152 26) fun _ =>
                      pbnd (j2_size v152) fun v155 =>
                      pret v155) (
                      pite (w32 a1 = 10) (
                        pbnd (xgI a0 1 19) fun v160 =>
                        pret v160) (
                        pite (w32 a1 = 11) (
                          pbnd (xgI a0 1 11) fun v165 =>
                          pret v165) (
                          pite (w32 a1 = 12) (
                            pbnd (xgI a0 1 8) fun v170 =>
                            pret v170) (
                            pret (-1))))))))))))))
set_option maxHeartbeats 4000000 in
set_option maxRecDepth 100000 in
theorem mx1_count (l : Launch) (g : XG) (a0 : Option Nat) (a1 : Int) : XMet l g yX1_count cX1_count 2 (Option.some Jvm.ClassFile.FieldType.int) (2) [rv g a0, .int (iI a1)] (x1_count a0 a1) rvI := by
  refine gx_start (by decide +kernel) (by have e := lg_sl_len [rv g a0, .int (iI a1)]; simp only [List.map_cons, List.map_nil, List.sum_cons, List.sum_nil, rv_cat, cat_int, cat_long] at e; omega) (fun X Q σ0 hl C E hQ hR hr hnm => ?_)
  subst hl
  rw [show lv_args 0 [rv g a0, .int (iI a1)] = [(0, rv g a0), (1, .int (iI a1))] from by simp [lv_args, rv_cat, cat_int, cat_long]]
  show GJ X 2 (xWo g σ0 (cx_s X).heap) Q (x1_count a0 a1) 0 [(0, rv g a0), (1, .int (iI a1))] []
  unfold x1_count
  refine gj_iload_n C dX1_count_0 1 rfl ?_
  by_cases h1_0 : w32 a1 = 0
  · refine gj_pos h1_0 ?_
    refine gj_tin (tgt := 68) C 0 h1_0 dX1_count_1 (by decide) (by decide) rfl (by decide) ?_
    refine gx_aload_n C dX1_count_68 0 rfl ?_
    refine gx_callVI (t0 := 1) (As := []) (rest := []) C E rfl dX1_count_69 (mx1_people (cx_l X) g a0) (lw_V q1192 q1194 qs29 q125 q1195) hyx_X1_people rfl hR (Nat.le_of_ble_eq_true rfl) (by decide) rfl rfl (Nat.zero_le _) (fun v69 => ?_)
    exact gx_iret C hQ hr dX1_count_72
  · refine gj_neg h1_0 ?_
    by_cases h1_1 : w32 a1 = 1
    · refine gj_pos h1_1 ?_
      refine gj_tin (tgt := 73) C 1 h1_1 dX1_count_1 (by decide) (by decide) rfl (by decide) ?_
      refine gx_aload_n C dX1_count_73 0 rfl ?_
      refine gx_gR (O := "BorrowedLives") (nm := "town") (ds := "LBorrowedLives$Town;") (fin := false) C E dX1_count_74 (by decide +kernel) (Or.inl q377) (fun _ h => h) (fun v74 => ?_)
      refine gx_gI (O := "BorrowedLives$Town") (nm := "bars") (ds := "I") (fin := false) C E dX1_count_77 (by decide +kernel) (Or.inr ⟨_, q256⟩) (fun _ h => h) (fun v77 => ?_)
      exact gx_iret C hQ hr dX1_count_80
    · refine gj_neg h1_1 ?_
      by_cases h1_2 : w32 a1 = 2
      · refine gj_pos h1_2 ?_
        refine gj_tin (tgt := 81) C 2 h1_2 dX1_count_1 (by decide) (by decide) rfl (by decide) ?_
        refine gx_aload_n C dX1_count_81 0 rfl ?_
        refine gx_gR (O := "BorrowedLives") (nm := "town") (ds := "LBorrowedLives$Town;") (fin := false) C E dX1_count_82 (by decide +kernel) (Or.inl q377) (fun _ h => h) (fun v82 => ?_)
        refine gx_callVI (t0 := 3) (As := []) (rest := []) C E rfl dX1_count_85 (mx3_sign (cx_l X) g v82) (lw_V q1317 q1318 q1319 q127 q1320) hyx_X3_sign rfl hR (Nat.le_of_ble_eq_true rfl) (by decide) rfl rfl (Nat.zero_le _) (fun v85 => ?_)
        exact gx_iret C hQ hr dX1_count_88
      · refine gj_neg h1_2 ?_
        by_cases h1_3 : w32 a1 = 3
        · refine gj_pos h1_3 ?_
          refine gj_tin (tgt := 89) C 3 h1_3 dX1_count_1 (by decide) (by decide) rfl (by decide) ?_
          refine gx_aload_n C dX1_count_89 0 rfl ?_
          refine gx_gR (O := "BorrowedLives") (nm := "state") (ds := "LBorrowedLives$State;") (fin := true) C E dX1_count_90 (by decide +kernel) (Or.inl q380) (fun _ h => h) (fun v90 => ?_)
          refine gx_gI (O := "BorrowedLives$State") (nm := "away") (ds := "Z") (fin := false) C E dX1_count_93 (by decide +kernel) (Or.inr ⟨_, q309⟩) (fun _ h => h) (fun v93 => ?_)
          refine gj_dia (J := 104) (L := [(0, rv g a0), (1, .int (iI a1))]) (st := []) (fun d104 => ?_) (fun t hJ => ?_)
          · skip
            refine gj_nrmI ?_
            exact gx_iret C hQ hr dX1_count_104
          · refine gj_if_eq (tgt := 103) C dX1_count_96 (by decide) (fun h96 => ?_) (fun h96 => ?_)
            · refine gj_iconst C dX1_count_103 ?_
              exact (by rw [if_pos h96] at hJ; exact hJ)
            · refine gj_iconst C dX1_count_99 ?_
              refine gj_goto (tgt := 104) C dX1_count_100 (by decide) ?_
              exact (by rw [if_neg h96] at hJ; exact hJ)
        · refine gj_neg h1_3 ?_
          by_cases h1_4 : w32 a1 = 4
          · refine gj_pos h1_4 ?_
            refine gj_tin (tgt := 105) C 4 h1_4 dX1_count_1 (by decide) (by decide) rfl (by decide) ?_
            refine gx_aload_n C dX1_count_105 0 rfl ?_
            refine gx_gR (O := "BorrowedLives") (nm := "state") (ds := "LBorrowedLives$State;") (fin := true) C E dX1_count_106 (by decide +kernel) (Or.inl q380) (fun _ h => h) (fun v106 => ?_)
            refine gx_gI (O := "BorrowedLives$State") (nm := "days") (ds := "I") (fin := false) C E dX1_count_109 (by decide +kernel) (Or.inr ⟨_, q312⟩) (fun _ h => h) (fun v109 => ?_)
            exact gx_iret C hQ hr dX1_count_112
          · refine gj_neg h1_4 ?_
            by_cases h1_5 : w32 a1 = 5
            · refine gj_pos h1_5 ?_
              refine gj_tin (tgt := 113) C 5 h1_5 dX1_count_1 (by decide) (by decide) rfl (by decide) ?_
              refine gx_aload_n C dX1_count_113 0 rfl ?_
              refine gx_gR (O := "BorrowedLives") (nm := "state") (ds := "LBorrowedLives$State;") (fin := true) C E dX1_count_114 (by decide +kernel) (Or.inl q380) (fun _ h => h) (fun v114 => ?_)
              refine gx_gI (O := "BorrowedLives$State") (nm := "homes") (ds := "I") (fin := false) C E dX1_count_117 (by decide +kernel) (Or.inr ⟨_, q314⟩) (fun _ h => h) (fun v117 => ?_)
              exact gx_iret C hQ hr dX1_count_120
            · refine gj_neg h1_5 ?_
              by_cases h1_6 : w32 a1 = 6
              · refine gj_pos h1_6 ?_
                refine gj_tin (tgt := 121) C 6 h1_6 dX1_count_1 (by decide) (by decide) rfl (by decide) ?_
                refine gx_aload_n C dX1_count_121 0 rfl ?_
                refine gx_gR (O := "BorrowedLives") (nm := "state") (ds := "LBorrowedLives$State;") (fin := true) C E dX1_count_122 (by decide +kernel) (Or.inl q380) (fun _ h => h) (fun v122 => ?_)
                refine gx_gI (O := "BorrowedLives$State") (nm := "harm") (ds := "I") (fin := false) C E dX1_count_125 (by decide +kernel) (Or.inr ⟨_, q316⟩) (fun _ h => h) (fun v125 => ?_)
                exact gx_iret C hQ hr dX1_count_128
              · refine gj_neg h1_6 ?_
                by_cases h1_7 : w32 a1 = 7
                · refine gj_pos h1_7 ?_
                  refine gj_tin (tgt := 129) C 7 h1_7 dX1_count_1 (by decide) (by decide) rfl (by decide) ?_
                  refine gx_aload_n C dX1_count_129 0 rfl ?_
                  refine gx_gR (O := "BorrowedLives") (nm := "state") (ds := "LBorrowedLives$State;") (fin := true) C E dX1_count_130 (by decide +kernel) (Or.inl q380) (fun _ h => h) (fun v130 => ?_)
                  refine gx_gR (O := "BorrowedLives$State") (nm := "purse") (ds := "[I") (fin := true) C E dX1_count_133 (by decide +kernel) (Or.inr ⟨_, q292⟩) (fun _ h => h) (fun v133 => ?_)
                  refine gx_callSI (As := [rv g v133]) (rest := []) C E dX1_count_136 (mx1_sum (cx_l X) g v133) (lw_S q1697 q1698 q125 q1699) hyx_X1_sum hR (Nat.le_of_ble_eq_true rfl) (by decide) rfl rfl (Nat.zero_le _) (fun v136 => ?_)
                  exact gx_iret C hQ hr dX1_count_139
                · refine gj_neg h1_7 ?_
                  by_cases h1_8 : w32 a1 = 8
                  · refine gj_pos h1_8 ?_
                    refine gj_tin (tgt := 140) C 8 h1_8 dX1_count_1 (by decide) (by decide) rfl (by decide) ?_
                    refine gx_aload_n C dX1_count_140 0 rfl ?_
                    refine gx_gR (O := "BorrowedLives") (nm := "state") (ds := "LBorrowedLives$State;") (fin := true) C E dX1_count_141 (by decide +kernel) (Or.inl q380) (fun _ h => h) (fun v141 => ?_)
                    refine gx_gR (O := "BorrowedLives$State") (nm := "debt") (ds := "[I") (fin := true) C E dX1_count_144 (by decide +kernel) (Or.inr ⟨_, q294⟩) (fun _ h => h) (fun v144 => ?_)
                    refine gx_callSI (As := [rv g v144]) (rest := []) C E dX1_count_147 (mx1_sum (cx_l X) g v144) (lw_S q1697 q1698 q125 q1699) hyx_X1_sum hR (Nat.le_of_ble_eq_true rfl) (by decide) rfl rfl (Nat.zero_le _) (fun v147 => ?_)
                    exact gx_iret C hQ hr dX1_count_150
                  · refine gj_neg h1_8 ?_
                    by_cases h1_9 : w32 a1 = 9
                    · refine gj_pos h1_9 ?_
                      refine gj_tin (tgt := 151) C 9 h1_9 dX1_count_1 (by decide) (by decide) rfl (by decide) ?_
                      refine gx_aload_n C dX1_count_151 0 rfl ?_
                      refine gx_gR (O := "BorrowedLives") (nm := "lines") (ds := "Ljava/util/ArrayList;") (fin := false) C E dX1_count_152 (by decide +kernel) (Or.inl q378) (fun _ h => h) (fun v152 => ?_)
                      refine gx_callVI (t0 := 26) (As := []) (rest := []) C E rfl dX1_count_155 (mj2_size (cx_l X) g v152) (lw_V q1196 q351 q352 q130 q353) hyx_J2_size rfl hR (Nat.le_of_ble_eq_true rfl) (by decide) rfl rfl (Nat.zero_le _) (fun v155 => ?_)
                      exact gx_iret C hQ hr dX1_count_158
                    · refine gj_neg h1_9 ?_
                      by_cases h1_10 : w32 a1 = 10
                      · refine gj_pos h1_10 ?_
                        refine gj_tin (tgt := 159) C 10 h1_10 dX1_count_1 (by decide) (by decide) rfl (by decide) ?_
                        refine gx_aload_n C dX1_count_159 0 rfl ?_
                        refine gx_gI (O := "BorrowedLives") (nm := "tales") (ds := "I") (fin := false) C E dX1_count_160 (by decide +kernel) (Or.inl q400) (fun _ h => h) (fun v160 => ?_)
                        exact gx_iret C hQ hr dX1_count_163
                      · refine gj_neg h1_10 ?_
                        by_cases h1_11 : w32 a1 = 11
                        · refine gj_pos h1_11 ?_
                          refine gj_tin (tgt := 164) C 11 h1_11 dX1_count_1 (by decide) (by decide) rfl (by decide) ?_
                          refine gx_aload_n C dX1_count_164 0 rfl ?_
                          refine gx_gI (O := "BorrowedLives") (nm := "done") (ds := "I") (fin := false) C E dX1_count_165 (by decide +kernel) (Or.inl q391) (fun _ h => h) (fun v165 => ?_)
                          exact gx_iret C hQ hr dX1_count_168
                        · refine gj_neg h1_11 ?_
                          by_cases h1_12 : w32 a1 = 12
                          · refine gj_pos h1_12 ?_
                            refine gj_tin (tgt := 169) C 12 h1_12 dX1_count_1 (by decide) (by decide) rfl (by decide) ?_
                            refine gx_aload_n C dX1_count_169 0 rfl ?_
                            refine gx_gI (O := "BorrowedLives") (nm := "taped") (ds := "I") (fin := false) C E dX1_count_170 (by decide +kernel) (Or.inl q388) (fun _ h => h) (fun v170 => ?_)
                            exact gx_iret C hQ hr dX1_count_173
                          · refine gj_neg h1_12 ?_
                            refine gj_tout (tgt := 174) C dX1_count_1 (by omega) (by decide) ?_
                            refine gj_iconst C dX1_count_174 ?_
                            exact gx_iret C hQ hr dX1_count_175
