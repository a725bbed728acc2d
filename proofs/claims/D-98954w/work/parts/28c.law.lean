/-! THE LAW: printed by genx.py -/

def l_law_j1188 (Ls : Nat) (xs : Nat → Int32) (a1 a2 a3 : Option Nat) (a4 : Int) (bk23 : (Int) → PT Hp Unit) : PT Hp Unit :=
  bk23 (a4 + 7)
def l_law_j816 (Ls : Nat) (xs : Nat → Int32) (a1 a2 a3 : Option Nat) (a4 : Int) (bk23 : (Int) → PT Hp Unit) : PT Hp Unit :=
  l_law_j1188 Ls xs a1 a2 a3 a4 bk23
def l_law_j1058 (Ls : Nat) (xs : Nat → Int32) (a1 a2 a3 : Option Nat) (a4 : Int) (bk23 : (Int) → PT Hp Unit) : PT Hp Unit :=
  l_law_j1188 Ls xs a1 a2 a3 a4 bk23
def l_law_b23 (Ls : Nat) (xs : Nat → Int32) (a1 a2 a3 : Option Nat) (a4 : Int) (bk23 : (Int) → PT Hp Unit) : PT Hp Unit :=
  pite (w32 ((((Ls : Int)) - 7)) < w32 a4) (
    pret ()) (
    pbnd (xsl Ls xs a4) fun v36 =>
    pite (w32 (zand v36 31) = 0) (
      pbnd (xsl Ls xs (a4 + 1)) fun v174 =>
      pbnd (xsl Ls xs (a4 + 2)) fun v184 =>
      pbnd (xsl Ls xs (a4 + 3)) fun v196 =>
      pbnd (xsl Ls xs (a4 + 4)) fun v206 =>
      pbnd (xsl Ls xs (a4 + 5)) fun v218 =>
      pbnd (xsl Ls xs (a4 + 6)) fun v229 =>
      pbnd (xrecv a1 1) fun _ =>
      pbnd (x1_feed a1 (lor' (lshl' (zi2l v174) 32) (land' (zi2l v184) 4294967295)) (lor' (lshl' (zi2l v196) 32) (land' (zi2l v206) 4294967295)) (lor' (lshl' (zi2l v218) 32) (land' (zi2l v229) 4294967295))) fun v236 =>
      pbnd (xsl Ls xs (a4 + 1)) fun v245 =>
      pbnd (xsl Ls xs (a4 + 2)) fun v255 =>
      pbnd (xsl Ls xs (a4 + 3)) fun v267 =>
      pbnd (xsl Ls xs (a4 + 4)) fun v277 =>
      pbnd (xsl Ls xs (a4 + 5)) fun v289 =>
      pbnd (xsl Ls xs (a4 + 6)) fun v300 =>
      pbnd (xM a2 (m5_feed (lor' (lshl' (zi2l v245) 32) (land' (zi2l v255) 4294967295)) (lor' (lshl' (zi2l v267) 32) (land' (zi2l v277) 4294967295)) (lor' (lshl' (zi2l v289) 32) (land' (zi2l v300) 4294967295)))) fun v307 =>
      pite (w32 v236 = w32 v307) (
        l_law_j1188 Ls xs a1 a2 a3 a4 bk23) (
        pfail)) (
      pite (w32 (zand v36 31) = 1) (
        pbnd (xrecv a1 1) fun _ =>
        pbnd (x1_town a1) fun v316 =>
        pbnd (xM a2 (m5_town)) fun v320 =>
        pite (w32 v316 = w32 v320) (
          l_law_j1188 Ls xs a1 a2 a3 a4 bk23) (
          pfail)) (
        pite (w32 (zand v36 31) = 2) (
          pbnd (xrecv a1 1) fun _ =>
          pbnd (x1_year a1) fun v329 =>
          pbnd (xM a2 (m5_year)) fun v333 =>
          pite (w32 v329 = w32 v333) (
            l_law_j1188 Ls xs a1 a2 a3 a4 bk23) (
            pfail)) (
          pite (w32 (zand v36 31) = 3) (
            pbnd (xsl Ls xs (a4 + 1)) fun v347 =>
            pbnd (xsl Ls xs (a4 + 2)) fun v353 =>
            pbnd (xrecv a1 1) fun _ =>
            pbnd (x1_person a1 v347 v353) fun v354 =>
            pbnd (xsl Ls xs (a4 + 1)) fun v363 =>
            pbnd (xsl Ls xs (a4 + 2)) fun v369 =>
            pbnd (xM a2 (m5_person v363 v369)) fun v370 =>
            pite (w32 v354 = w32 v370) (
              l_law_j1188 Ls xs a1 a2 a3 a4 bk23) (
              pfail)) (
            pite (w32 (zand v36 31) = 4) (
              pbnd (xsl Ls xs (a4 + 1)) fun v384 =>
              pbnd (xsl Ls xs (a4 + 2)) fun v390 =>
              pbnd (xrecv a1 1) fun _ =>
              pbnd (x1_life a1 v384 v390) fun v391 =>
              pbnd (xsl Ls xs (a4 + 1)) fun v400 =>
              pbnd (xsl Ls xs (a4 + 2)) fun v406 =>
              pbnd (xM a2 (m5_life v400 v406)) fun v407 =>
              pite (w32 v391 = w32 v407) (
                l_law_j1188 Ls xs a1 a2 a3 a4 bk23) (
                pfail)) (
              pite (w32 (zand v36 31) = 5) (
                pbnd (xsl Ls xs (a4 + 1)) fun v421 =>
                pbnd (xsl Ls xs (a4 + 2)) fun v427 =>
                pbnd (xrecv a1 1) fun _ =>
                pbnd (x1_may a1 v421 v427) fun v428 =>
                pbnd (xsl Ls xs (a4 + 1)) fun v437 =>
                pbnd (xsl Ls xs (a4 + 2)) fun v443 =>
                pbnd (xM a2 (m5_may v437 v443)) fun v444 =>
                pite (w32 v428 = w32 v444) (
                  l_law_j1188 Ls xs a1 a2 a3 a4 bk23) (
                  pfail)) (
                pite (w32 (zand v36 31) = 6) (
                  pbnd (xsl Ls xs (a4 + 1)) fun v458 =>
                  pbnd (xsl Ls xs (a4 + 2)) fun v464 =>
                  pbnd (xrecv a1 1) fun _ =>
                  pbnd (x1_hide a1 v458 v464) fun v465 =>
                  pbnd (xsl Ls xs (a4 + 1)) fun v474 =>
                  pbnd (xsl Ls xs (a4 + 2)) fun v480 =>
                  pbnd (xM a2 (m5_hide v474 v480)) fun v481 =>
                  pite (w32 v465 = w32 v481) (
                    l_law_j1188 Ls xs a1 a2 a3 a4 bk23) (
                    pfail)) (
                  pite (w32 (zand v36 31) = 7) (
                    pbnd (xsl Ls xs (a4 + 1)) fun v495 =>
                    pbnd (xrecv a1 1) fun _ =>
                    pbnd (x1_lot a1 v495) fun v496 =>
                    pbnd (xsl Ls xs (a4 + 1)) fun v505 =>
                    pbnd (xM a2 (m5_lot v505)) fun v506 =>
                    pite (w32 v496 = w32 v506) (
                      l_law_j1188 Ls xs a1 a2 a3 a4 bk23) (
                      pfail)) (
                    pite (w32 (zand v36 31) = 8) (
                      pbnd (xsl Ls xs (a4 + 1)) fun v520 =>
                      pbnd (xsl Ls xs (a4 + 2)) fun v526 =>
                      pbnd (xrecv a1 1) fun _ =>
                      pbnd (x1_swap a1 v520 v526) fun v527 =>
                      pbnd (xsl Ls xs (a4 + 1)) fun v536 =>
                      pbnd (xsl Ls xs (a4 + 2)) fun v542 =>
                      pbnd (xM a2 (m5_swap v536 v542)) fun v543 =>
                      pite (w32 v527 = w32 v543) (
                        l_law_j1188 Ls xs a1 a2 a3 a4 bk23) (
                        pfail)) (
                      pite (w32 (zand v36 31) = 9) (
                        pbnd (xrecv a1 1) fun _ =>
                        pbnd (x1_day a1) fun v552 =>
                        pbnd (xM a2 (m5_day)) fun v556 =>
                        pite (w32 v552 = w32 v556) (
                          l_law_j1188 Ls xs a1 a2 a3 a4 bk23) (
                          pfail)) (
                        pite (w32 (zand v36 31) = 10) (
                          pbnd (xrecv a1 1) fun _ =>
                          pbnd (x1_home a1) fun v565 =>
                          pbnd (xM a2 (m5_home)) fun v569 =>
                          pite (w32 v565 = w32 v569) (
                            l_law_j1188 Ls xs a1 a2 a3 a4 bk23) (
                            pfail)) (
                          pite (w32 (zand v36 31) = 11) (
                            pbnd (xrecv a1 1) fun _ =>
                            pbnd (x1_undo a1) fun v578 =>
                            pbnd (xM a2 (m5_undo)) fun v582 =>
                            pite (w32 v578 = w32 v582) (
                              l_law_j1188 Ls xs a1 a2 a3 a4 bk23) (
                              pfail)) (
                            pite (w32 (zand v36 31) = 12) (
                              pbnd (xsl Ls xs (a4 + 1)) fun v596 =>
                              pbnd (xrecv a1 1) fun _ =>
                              pbnd (x1_judged a1 v596) fun v597 =>
                              pbnd (xsl Ls xs (a4 + 1)) fun v606 =>
                              pbnd (xM a2 (m5_judged v606)) fun v607 =>
                              pite (w32 v597 = w32 v607) (
                                l_law_j1188 Ls xs a1 a2 a3 a4 bk23) (
                                pfail)) (
                              pite (w32 (zand v36 31) = 13) (
                                pbnd (xrecv a1 1) fun _ =>
                                pbnd (x1_lots a1) fun v616 =>
                                pbnd (xM a2 (m5_lots)) fun v620 =>
                                pite (w32 v616 = w32 v620) (
                                  l_law_j1188 Ls xs a1 a2 a3 a4 bk23) (
                                  pfail)) (
                                pite (w32 (zand v36 31) = 14) (
                                  pbnd (xsl Ls xs (a4 + 1)) fun v634 =>
                                  pbnd (xsl Ls xs (a4 + 2)) fun v640 =>
                                  pbnd (xrecv a1 1) fun _ =>
                                  pbnd (x1_odds a1 v634 v640) fun v641 =>
                                  pbnd (xsl Ls xs (a4 + 1)) fun v650 =>
                                  pbnd (xsl Ls xs (a4 + 2)) fun v656 =>
                                  pbnd (xM a2 (m5_odds v650 v656)) fun v657 =>
                                  pite (w32 v641 = w32 v657) (
                                    l_law_j1188 Ls xs a1 a2 a3 a4 bk23) (
                                    pfail)) (
                                  pite (w32 (zand v36 31) = 15) (
                                    pbnd (xsl Ls xs (a4 + 1)) fun v671 =>
                                    pbnd (xrecv a1 1) fun _ =>
                                    pbnd (x1_least a1 v671) fun v672 =>
                                    pbnd (xsl Ls xs (a4 + 1)) fun v681 =>
                                    pbnd (xM a2 (m5_least v681)) fun v682 =>
                                    pite (w32 v672 = w32 v682) (
                                      l_law_j1188 Ls xs a1 a2 a3 a4 bk23) (
                                      pfail)) (
                                    pite (w32 (zand v36 31) = 16) (
                                      pbnd (xsl Ls xs (a4 + 1)) fun v696 =>
                                      pbnd (xsl Ls xs (a4 + 2)) fun v702 =>
                                      pbnd (xrecv a1 1) fun _ =>
                                      pbnd (x1_prepare a1 v696 v702) fun v703 =>
                                      pbnd (xsl Ls xs (a4 + 1)) fun v712 =>
                                      pbnd (xsl Ls xs (a4 + 2)) fun v718 =>
                                      pbnd (xM a2 (m5_prepare v712 v718)) fun v719 =>
                                      pite (w32 v703 = w32 v719) (
                                        l_law_j1188 Ls xs a1 a2 a3 a4 bk23) (
                                        pfail)) (
                                      pite (w32 (zand v36 31) = 17) (
                                        pbnd (xsl Ls xs (a4 + 1)) fun v733 =>
                                        pbnd (xsl Ls xs (a4 + 2)) fun v739 =>
                                        pbnd (xsl Ls xs (a4 + 3)) fun v745 =>
                                        pbnd (xsl Ls xs (a4 + 4)) fun v751 =>
                                        pbnd (x0_deeds a1 v733 v739 v745 v751 a3) fun v753 =>
                                        pbnd (xsl Ls xs (a4 + 1)) fun v764 =>
                                        pbnd (xsl Ls xs (a4 + 2)) fun v770 =>
                                        pbnd (xsl Ls xs (a4 + 3)) fun v776 =>
                                        pbnd (xsl Ls xs (a4 + 4)) fun v782 =>
                                        pbnd (xM a2 (m5_deeds v764 v770 v776 v782)) fun v783 =>
                                        pbnd (xM a2 (m5_thrown)) fun v789 =>
                                        pite (w32 v789 = w32 v753) (
                                          pite (w32 v753 = 0) (
                                            pbnd (xld a3 41 0) fun v806 =>
                                            pite (w32 (lcmp' v806 (zi2l v783)) = 0) (
                                              l_law_j816 Ls xs a1 a2 a3 a4 bk23) (
                                              pfail)) (
                                            l_law_j816 Ls xs a1 a2 a3 a4 bk23)) (
                                          pfail)) (
                                        pite (w32 (zand v36 31) = 18) (
                                          pbnd (xsl Ls xs (a4 + 1)) fun v825 =>
                                          pbnd (xrecv a1 1) fun _ =>
                                          pbnd (x1_pairs a1 v825) fun v826 =>
                                          pbnd (xsl Ls xs (a4 + 1)) fun v835 =>
                                          pbnd (xM a2 (m5_pairs v835)) fun v836 =>
                                          pite (w32 v826 = w32 v836) (
                                            l_law_j1188 Ls xs a1 a2 a3 a4 bk23) (
                                            pfail)) (
                                          pite (w32 (zand v36 31) = 19) (
                                            pbnd (xsl Ls xs (a4 + 1)) fun v850 =>
                                            pbnd (xsl Ls xs (a4 + 2)) fun v856 =>
                                            pbnd (xsl Ls xs (a4 + 3)) fun v862 =>
                                            pbnd (xrecv a1 1) fun _ =>
                                            pbnd (x1_tale a1 v850 v856 v862) fun v863 =>
                                            pbnd (xsl Ls xs (a4 + 1)) fun v872 =>
                                            pbnd (xsl Ls xs (a4 + 2)) fun v878 =>
                                            pbnd (xsl Ls xs (a4 + 3)) fun v884 =>
                                            pbnd (xM a2 (m5_tale v872 v878 v884)) fun v885 =>
                                            pite (w32 v863 = w32 v885) (
                                              l_law_j1188 Ls xs a1 a2 a3 a4 bk23) (
                                              pfail)) (
                                            pite (w32 (zand v36 31) = 20) (
                                              pbnd (xrecv a1 1) fun _ =>
                                              pbnd (x1_how a1) fun v894 =>
                                              pbnd (xM a2 (m5_how)) fun v898 =>
                                              pite (w32 v894 = w32 v898) (
                                                l_law_j1188 Ls xs a1 a2 a3 a4 bk23) (
                                                pfail)) (
                                              pite (w32 (zand v36 31) = 21) (
                                                pbnd (xsl Ls xs (a4 + 1)) fun v912 =>
                                                pbnd (xrecv a1 1) fun _ =>
                                                pbnd (x1_who a1 v912) fun v913 =>
                                                pbnd (xsl Ls xs (a4 + 1)) fun v922 =>
                                                pbnd (xM a2 (m5_who v922)) fun v923 =>
                                                pite (w32 v913 = w32 v923) (
                                                  l_law_j1188 Ls xs a1 a2 a3 a4 bk23) (
                                                  pfail)) (
                                                pite (w32 (zand v36 31) = 22) (
                                                  pbnd (xrecv a1 1) fun _ =>
                                                  pbnd (x1_ask a1) fun v932 =>
                                                  pbnd (xM a2 (m5_ask)) fun v936 =>
                                                  pite (w32 v932 = w32 v936) (
                                                    l_law_j1188 Ls xs a1 a2 a3 a4 bk23) (
                                                    pfail)) (
                                                  pite (w32 (zand v36 31) = 23) (
                                                    pbnd (xsl Ls xs (a4 + 1)) fun v950 =>
                                                    pbnd (xrecv a1 1) fun _ =>
                                                    pbnd (x1_law a1 v950) fun v951 =>
                                                    pbnd (xsl Ls xs (a4 + 1)) fun v960 =>
                                                    pbnd (xM a2 (m5_law v960)) fun v961 =>
                                                    pite (w32 v951 = w32 v961) (
                                                      l_law_j1188 Ls xs a1 a2 a3 a4 bk23) (
                                                      pfail)) (
                                                    pite (w32 (zand v36 31) = 24) (
                                                      pbnd (xsl Ls xs (a4 + 1)) fun v975 =>
                                                      pbnd (xsl Ls xs (a4 + 2)) fun v981 =>
                                                      pbnd (xsl Ls xs (a4 + 3)) fun v987 =>
                                                      pbnd (xsl Ls xs (a4 + 4)) fun v993 =>
                                                      pbnd (x0_rests a1 v975 v981 v987 v993 a3) fun v995 =>
                                                      pbnd (xsl Ls xs (a4 + 1)) fun v1006 =>
                                                      pbnd (xsl Ls xs (a4 + 2)) fun v1012 =>
                                                      pbnd (xsl Ls xs (a4 + 3)) fun v1018 =>
                                                      pbnd (xsl Ls xs (a4 + 4)) fun v1024 =>
                                                      pbnd (xM a2 (m5_rests v1006 v1012 v1018 v1024)) fun v1025 =>
                                                      pbnd (xM a2 (m5_thrown)) fun v1031 =>
                                                      pite (w32 v1031 = w32 v995) (
                                                        pite (w32 v995 = 0) (
                                                          pbnd (xld a3 41 0) fun v1048 =>
                                                          pite (w32 (lcmp' v1048 (zi2l v1025)) = 0) (
                                                            l_law_j1058 Ls xs a1 a2 a3 a4 bk23) (
                                                            pfail)) (
                                                          l_law_j1058 Ls xs a1 a2 a3 a4 bk23)) (
                                                        pfail)) (
                                                      pite (w32 (zand v36 31) = 25) (
                                                        pbnd (xsl Ls xs (a4 + 1)) fun v1067 =>
                                                        pbnd (xsl Ls xs (a4 + 2)) fun v1073 =>
                                                        pbnd (xsl Ls xs (a4 + 3)) fun v1079 =>
                                                        pbnd (xrecv a1 1) fun _ =>
                                                        pbnd (x1_years a1 v1067 v1073 v1079) fun v1080 =>
                                                        pbnd (xsl Ls xs (a4 + 1)) fun v1089 =>
                                                        pbnd (xsl Ls xs (a4 + 2)) fun v1095 =>
                                                        pbnd (xsl Ls xs (a4 + 3)) fun v1101 =>
                                                        pbnd (xM a2 (m5_years v1089 v1095 v1101)) fun v1102 =>
                                                        pite (w32 v1080 = w32 v1102) (
                                                          l_law_j1188 Ls xs a1 a2 a3 a4 bk23) (
                                                          pfail)) (
                                                        pite (w32 (zand v36 31) = 26) (
                                                          pbnd (xsl Ls xs (a4 + 1)) fun v1116 =>
                                                          pbnd (xsl Ls xs (a4 + 2)) fun v1122 =>
                                                          plet (if w32 v1122 = 0 then 0 else 1) fun d1131 =>
                                                          pbnd (xrecv a1 1) fun _ =>
                                                          pbnd (x1_mark a1 v1116 d1131) fun v1131 =>
                                                          pbnd (xsl Ls xs (a4 + 1)) fun v1140 =>
                                                          pbnd (xsl Ls xs (a4 + 2)) fun v1146 =>
                                                          plet (if w32 v1146 = 0 then 0 else 1) fun d1155 =>
                                                          pbnd (xM a2 (m5_mark v1140 d1155)) fun v1155 =>
                                                          pite (w32 v1131 = w32 v1155) (
                                                            l_law_j1188 Ls xs a1 a2 a3 a4 bk23) (
                                                            pfail)) (
                                                          pite (w32 (zand v36 31) = 27) (
                                                            pbnd (xsl Ls xs (a4 + 1)) fun v1169 =>
                                                            pbnd (xrecv a1 1) fun _ =>
                                                            pbnd (x1_count a1 v1169) fun v1170 =>
                                                            pbnd (xsl Ls xs (a4 + 1)) fun v1179 =>
                                                            pbnd (xM a2 (m5_count v1179)) fun v1180 =>
                                                            pite (w32 v1170 = w32 v1180) (
                                                              l_law_j1188 Ls xs a1 a2 a3 a4 bk23) (
                                                              pfail)) (
                                                            l_law_j1188 Ls xs a1 a2 a3 a4 bk23)))))))))))))))))))))))))))))
def l_law_l23 (Ls : Nat) (xs : Nat → Int32) (a1 a2 a3 : Option Nat) (a4 : Int) : PT Hp Unit :=
  ploop (fun (s : (Int)) bk23 => l_law_b23 Ls xs a1 a2 a3 s bk23) (a4)
def l_law (Ls : Nat) (xs : Nat → Int32) : PT Hp Unit :=
  pbnd (xnew 1) fun v0 =>
  pbnd (xnn v0) fun _ =>
  pbnd (x1_init v0) fun _ =>
  pbnd (xnew 0) fun v8 =>
  pbnd (xnn v8) fun _ =>
  pbnd (x5_init v8) fun _ =>
  pbnd (xnewa 41 1) fun v17 =>
  l_law_l23 Ls xs v0 v8 v17 0
set_option maxHeartbeats 16000000 in
set_option maxRecDepth 100000 in
theorem ml_law {X : Cx} {g : XG} {σ0 : Hp} {b Ls : Nat} {xs : Nat → Int32} (C : GC X 7 code R_law) (E : XE X g σ0) (hst : (cx_l X).stackTraces = false) (hX : va_X b Ls xs (cx_s X) (cx_s X).heap) (hbl : b < (cx_s X).heap.size) (hbA : ¬ xA g b) (hm : cx_R X = room_1) (hargs : cx_a X = #[Value.ref b]) (hr : (cx_y X).sig.returnType = ret) (hq : cx_q X = lw_Z (cx_b X) #[Value.ref b] (cx_s X)) (h0 : (cx_s X).heap.size = g.2.2.1) (hn : h_nx σ0 = 0) (hu : h_us σ0 = 0) {Q : Unit → Hp → Prop} (hR : 2500 ≤ (cx_R X).frames ∧ 40 * 2500 ≤ (cx_R X).locals) : GJ X 7 (xWo g σ0 (cx_s X).heap) Q (l_law Ls xs) 0 [(0, .ref b)] [] := by
  have J23 : ∀ (a1 a2 a3 : Option Nat) (a4 : Int), GJ X 7 (xWo g σ0 (cx_s X).heap) Q (l_law_l23 Ls xs a1 a2 a3 a4) 23 [(0, .ref b), (1, rv g a1), (2, rv g a2), (3, rv g a3), (4, .int (iI a4))] [] := by
    intro a1 a2 a3 a4
    unfold l_law_l23
    refine gj_loop (fun (s : (Int)) => [(0, .ref b), (1, rv g a1), (2, rv g a2), (3, rv g a3), (4, .int (iI s))]) (a4) (fun bk23 hb23 s => ?_)
    obtain ⟨a4, rfl⟩ : ∃ z, z = s := ⟨s, rfl⟩
    show GJ X 7 (xWo g σ0 (cx_s X).heap) Q (l_law_b23 Ls xs a1 a2 a3 a4 bk23) 23 [(0, .ref b), (1, rv g a1), (2, rv g a2), (3, rv g a3), (4, .int (iI a4))] []
    have J1188 : ∀ (a4 : Int), GJ X 7 (xWo g σ0 (cx_s X).heap) Q (l_law_j1188 Ls xs a1 a2 a3 a4 bk23) 1188 [(0, .ref b), (1, rv g a1), (2, rv g a2), (3, rv g a3), (4, .int (iI a4))] [] := by
      intro a4
      unfold l_law_j1188
      refine gj_iinc (L' := [(4, .int (iI ((a4 + 7)))), (0, .ref b), (1, rv g a1), (2, rv g a2), (3, rv g a3)]) C dL_law_1188 4 rfl (by decide) (by simp [List.filter, rv_cat, cat_int, cat_long, fin4_3]) ?_
      refine gj_goto (tgt := 23) C dL_law_1191 (by decide) ?_
      exact gj_to [1, 2, 3, 4, 0] (hb23 (a4 + 7)) rfl
    have J816 : ∀ (a4 : Int), GJ X 7 (xWo g σ0 (cx_s X).heap) Q (l_law_j816 Ls xs a1 a2 a3 a4 bk23) 816 [(0, .ref b), (1, rv g a1), (2, rv g a2), (3, rv g a3), (4, .int (iI a4))] [] := by
      intro a4
      unfold l_law_j816
      refine gj_goto (tgt := 1188) C dL_law_816 (by decide) ?_
      exact gj_to [0, 1, 2, 3, 4] (J1188 a4) rfl
    have J1058 : ∀ (a4 : Int), GJ X 7 (xWo g σ0 (cx_s X).heap) Q (l_law_j1058 Ls xs a1 a2 a3 a4 bk23) 1058 [(0, .ref b), (1, rv g a1), (2, rv g a2), (3, rv g a3), (4, .int (iI a4))] [] := by
      intro a4
      unfold l_law_j1058
      refine gj_goto (tgt := 1188) C dL_law_1058 (by decide) ?_
      exact gj_to [0, 1, 2, 3, 4] (J1188 a4) rfl
    unfold l_law_b23
    refine gj_iload C dL_law_23 4 rfl ?_
    refine gj_aload_n C dL_law_25 0 rfl ?_
    refine gl_slen C hX hbl hbA dL_law_26 ?_
    refine gj_bipush C dL_law_27 rfl ?_
    refine gj_isub C dL_law_29 ?_
    refine gj_icmp_gt (tgt := 1194) C dL_law_30 (by decide) rfl rfl (fun h30 => gj_pos h30 ?_) (fun h30 => gj_neg h30 ?_)
    · refine gj_iconst C dL_law_1194 ?_
      exact gl_ret C hm hargs hr hq h0 hn hu dL_law_1195
    · refine gj_aload_n C dL_law_33 0 rfl ?_
      refine gj_iload C dL_law_34 4 rfl ?_
      refine gl_sld C hX hbl hbA dL_law_36 (fun v36 => ?_)
      refine gj_bipush C dL_law_37 rfl ?_
      refine gj_iand C dL_law_39 ?_
      by_cases h40_0 : w32 (zand v36 31) = 0
      · refine gj_pos h40_0 ?_
        refine gj_tin (tgt := 168) C 0 h40_0 dL_law_40 (by decide) (by decide) rfl (by decide) ?_
        refine gx_aload_n C dL_law_168 1 rfl ?_
        refine gj_aload_n C dL_law_169 0 rfl ?_
        refine gj_iload C dL_law_170 4 rfl ?_
        refine gj_iconst C dL_law_172 ?_
        refine gj_iadd C dL_law_173 ?_
        refine gl_sld C hX hbl hbA dL_law_174 (fun v174 => ?_)
        refine gj_i2l C dL_law_175 ?_
        refine gj_bipush C dL_law_176 rfl ?_
        refine gj_lshl C dL_law_178 ?_
        refine gj_aload_n C dL_law_179 0 rfl ?_
        refine gj_iload C dL_law_180 4 rfl ?_
        refine gj_iconst C dL_law_182 ?_
        refine gj_iadd C dL_law_183 ?_
        refine gl_sld C hX hbl hbA dL_law_184 (fun v184 => ?_)
        refine gj_i2l C dL_law_185 ?_
        refine gj_ldc2 (z := 4294967295) C dL_law_186 q2398 (by decide) ?_
        refine gj_land C dL_law_189 ?_
        refine gj_lor C dL_law_190 ?_
        refine gj_aload_n C dL_law_191 0 rfl ?_
        refine gj_iload C dL_law_192 4 rfl ?_
        refine gj_iconst C dL_law_194 ?_
        refine gj_iadd C dL_law_195 ?_
        refine gl_sld C hX hbl hbA dL_law_196 (fun v196 => ?_)
        refine gj_i2l C dL_law_197 ?_
        refine gj_bipush C dL_law_198 rfl ?_
        refine gj_lshl C dL_law_200 ?_
        refine gj_aload_n C dL_law_201 0 rfl ?_
        refine gj_iload C dL_law_202 4 rfl ?_
        refine gj_iconst C dL_law_204 ?_
        refine gj_iadd C dL_law_205 ?_
        refine gl_sld C hX hbl hbA dL_law_206 (fun v206 => ?_)
        refine gj_i2l C dL_law_207 ?_
        refine gj_ldc2 (z := 4294967295) C dL_law_208 q2398 (by decide) ?_
        refine gj_land C dL_law_211 ?_
        refine gj_lor C dL_law_212 ?_
        refine gj_aload_n C dL_law_213 0 rfl ?_
        refine gj_iload C dL_law_214 4 rfl ?_
        refine gj_iconst C dL_law_216 ?_
        refine gj_iadd C dL_law_217 ?_
        refine gl_sld C hX hbl hbA dL_law_218 (fun v218 => ?_)
        refine gj_i2l C dL_law_219 ?_
        refine gj_bipush C dL_law_220 rfl ?_
        refine gj_lshl C dL_law_222 ?_
        refine gj_aload_n C dL_law_223 0 rfl ?_
        refine gj_iload C dL_law_224 4 rfl ?_
        refine gj_bipush C dL_law_226 rfl ?_
        refine gj_iadd C dL_law_228 ?_
        refine gl_sld C hX hbl hbA dL_law_229 (fun v229 => ?_)
        refine gj_i2l C dL_law_230 ?_
        refine gj_ldc2 (z := 4294967295) C dL_law_231 q2398 (by decide) ?_
        refine gj_land C dL_law_234 ?_
        refine gj_lor C dL_law_235 ?_
        refine gx_callVI (t0 := 1) (As := [.long (iL (lor' (lshl' (zi2l v174) 32) (land' (zi2l v184) 4294967295))), .long (iL (lor' (lshl' (zi2l v196) 32) (land' (zi2l v206) 4294967295))), .long (iL (lor' (lshl' (zi2l v218) 32) (land' (zi2l v229) 4294967295)))]) (rest := []) C E rfl dL_law_236 (mx1_feed (cx_l X) g a1 (lor' (lshl' (zi2l v174) 32) (land' (zi2l v184) 4294967295)) (lor' (lshl' (zi2l v196) 32) (land' (zi2l v206) 4294967295)) (lor' (lshl' (zi2l v218) 32) (land' (zi2l v229) 4294967295))) (lw_V q453 q454 q455 q125 q456) hyx_X1_feed rfl hR (Nat.le_of_ble_eq_true rfl) (by decide) rfl rfl (Nat.zero_le _) (fun v236 => ?_)
        refine gx_aload_n C dL_law_239 2 rfl ?_
        refine gj_aload_n C dL_law_240 0 rfl ?_
        refine gj_iload C dL_law_241 4 rfl ?_
        refine gj_iconst C dL_law_243 ?_
        refine gj_iadd C dL_law_244 ?_
        refine gl_sld C hX hbl hbA dL_law_245 (fun v245 => ?_)
        refine gj_i2l C dL_law_246 ?_
        refine gj_bipush C dL_law_247 rfl ?_
        refine gj_lshl C dL_law_249 ?_
        refine gj_aload_n C dL_law_250 0 rfl ?_
        refine gj_iload C dL_law_251 4 rfl ?_
        refine gj_iconst C dL_law_253 ?_
        refine gj_iadd C dL_law_254 ?_
        refine gl_sld C hX hbl hbA dL_law_255 (fun v255 => ?_)
        refine gj_i2l C dL_law_256 ?_
        refine gj_ldc2 (z := 4294967295) C dL_law_257 q2398 (by decide) ?_
        refine gj_land C dL_law_260 ?_
        refine gj_lor C dL_law_261 ?_
        refine gj_aload_n C dL_law_262 0 rfl ?_
        refine gj_iload C dL_law_263 4 rfl ?_
        refine gj_iconst C dL_law_265 ?_
        refine gj_iadd C dL_law_266 ?_
        refine gl_sld C hX hbl hbA dL_law_267 (fun v267 => ?_)
        refine gj_i2l C dL_law_268 ?_
        refine gj_bipush C dL_law_269 rfl ?_
        refine gj_lshl C dL_law_271 ?_
        refine gj_aload_n C dL_law_272 0 rfl ?_
        refine gj_iload C dL_law_273 4 rfl ?_
        refine gj_iconst C dL_law_275 ?_
        refine gj_iadd C dL_law_276 ?_
        refine gl_sld C hX hbl hbA dL_law_277 (fun v277 => ?_)
        refine gj_i2l C dL_law_278 ?_
        refine gj_ldc2 (z := 4294967295) C dL_law_279 q2398 (by decide) ?_
        refine gj_land C dL_law_282 ?_
        refine gj_lor C dL_law_283 ?_
        refine gj_aload_n C dL_law_284 0 rfl ?_
        refine gj_iload C dL_law_285 4 rfl ?_
        refine gj_iconst C dL_law_287 ?_
        refine gj_iadd C dL_law_288 ?_
        refine gl_sld C hX hbl hbA dL_law_289 (fun v289 => ?_)
        refine gj_i2l C dL_law_290 ?_
        refine gj_bipush C dL_law_291 rfl ?_
        refine gj_lshl C dL_law_293 ?_
        refine gj_aload_n C dL_law_294 0 rfl ?_
        refine gj_iload C dL_law_295 4 rfl ?_
        refine gj_bipush C dL_law_297 rfl ?_
        refine gj_iadd C dL_law_299 ?_
        refine gl_sld C hX hbl hbA dL_law_300 (fun v300 => ?_)
        refine gj_i2l C dL_law_301 ?_
        refine gj_ldc2 (z := 4294967295) C dL_law_302 q2398 (by decide) ?_
        refine gj_land C dL_law_305 ?_
        refine gj_lor C dL_law_306 ?_
        refine gx_callMI (As := [.long (iL (lor' (lshl' (zi2l v245) 32) (land' (zi2l v255) 4294967295))), .long (iL (lor' (lshl' (zi2l v267) 32) (land' (zi2l v277) 4294967295))), .long (iL (lor' (lshl' (zi2l v289) 32) (land' (zi2l v300) 4294967295)))]) (rest := [.int (iI v236)]) C E dL_law_307 (fun am => met5_feed (cx_l X) (gm g am) (lor' (lshl' (zi2l v245) 32) (land' (zi2l v255) 4294967295)) (lor' (lshl' (zi2l v267) 32) (land' (zi2l v277) 4294967295)) (lor' (lshl' (zi2l v289) 32) (land' (zi2l v300) 4294967295))) (lw_V q1798 q1799 q1800 q134 q1801) hy5_feed.2 hy5_feed.1 hR (Nat.le_of_ble_eq_true rfl) (by decide) rfl rfl (Nat.le_of_ble_eq_true rfl) (fun v307 => ?_)
        refine gj_icmp_eq (tgt := 1188) C dL_law_310 (by decide) rfl rfl (fun h310 => gj_pos h310 ?_) (fun h310 => gj_neg h310 ?_)
        · exact gj_to [0, 1, 2, 3, 4] (J1188 a4) rfl
        · refine gj_iconst C dL_law_313 ?_
          exact gj_fail
      · refine gj_neg h40_0 ?_
        by_cases h40_1 : w32 (zand v36 31) = 1
        · refine gj_pos h40_1 ?_
          refine gj_tin (tgt := 315) C 1 h40_1 dL_law_40 (by decide) (by decide) rfl (by decide) ?_
          refine gx_aload_n C dL_law_315 1 rfl ?_
          refine gx_callWI (t0 := 1) (As := []) (rest := []) C E rfl dL_law_316 (mx1_town (cx_l X) g a1) (lw_VW q457 q458 q459 q125 q460) hyx_X1_town rfl hR (Nat.le_of_ble_eq_true rfl) (by decide) rfl rfl (Nat.zero_le _) (fun v316 => ?_)
          refine gx_aload_n C dL_law_319 2 rfl ?_
          refine gx_callMI (As := []) (rest := [.int (iI v316)]) C E dL_law_320 (fun am => met5_town (cx_l X) (gm g am)) (lw_V q2003 q2004 q2005 q134 q2006) hy5_town.2 hy5_town.1 hR (Nat.le_of_ble_eq_true rfl) (by decide) rfl rfl (Nat.le_of_ble_eq_true rfl) (fun v320 => ?_)
          refine gj_icmp_eq (tgt := 1188) C dL_law_323 (by decide) rfl rfl (fun h323 => gj_pos h323 ?_) (fun h323 => gj_neg h323 ?_)
          · exact gj_to [0, 1, 2, 3, 4] (J1188 a4) rfl
          · refine gj_iconst C dL_law_326 ?_
            exact gj_fail
        · refine gj_neg h40_1 ?_
          by_cases h40_2 : w32 (zand v36 31) = 2
          · refine gj_pos h40_2 ?_
            refine gj_tin (tgt := 328) C 2 h40_2 dL_law_40 (by decide) (by decide) rfl (by decide) ?_
            refine gx_aload_n C dL_law_328 1 rfl ?_
            refine gx_callWI (t0 := 1) (As := []) (rest := []) C E rfl dL_law_329 (mx1_year (cx_l X) g a1) (lw_VW q1112 q1113 q1114 q125 q1115) hyx_X1_year rfl hR (Nat.le_of_ble_eq_true rfl) (by decide) rfl rfl (Nat.zero_le _) (fun v329 => ?_)
            refine gx_aload_n C dL_law_332 2 rfl ?_
            refine gx_callMI (As := []) (rest := [.int (iI v329)]) C E dL_law_333 (fun am => met5_year (cx_l X) (gm g am)) (lw_V q2122 q2123 q2124 q134 q2125) hy5_year.2 hy5_year.1 hR (Nat.le_of_ble_eq_true rfl) (by decide) rfl rfl (Nat.le_of_ble_eq_true rfl) (fun v333 => ?_)
            refine gj_icmp_eq (tgt := 1188) C dL_law_336 (by decide) rfl rfl (fun h336 => gj_pos h336 ?_) (fun h336 => gj_neg h336 ?_)
            · exact gj_to [0, 1, 2, 3, 4] (J1188 a4) rfl
            · refine gj_iconst C dL_law_339 ?_
              exact gj_fail
          · refine gj_neg h40_2 ?_
            by_cases h40_3 : w32 (zand v36 31) = 3
            · refine gj_pos h40_3 ?_
              refine gj_tin (tgt := 341) C 3 h40_3 dL_law_40 (by decide) (by decide) rfl (by decide) ?_
              refine gx_aload_n C dL_law_341 1 rfl ?_
              refine gj_aload_n C dL_law_342 0 rfl ?_
              refine gj_iload C dL_law_343 4 rfl ?_
              refine gj_iconst C dL_law_345 ?_
              refine gj_iadd C dL_law_346 ?_
              refine gl_sld C hX hbl hbA dL_law_347 (fun v347 => ?_)
              refine gj_aload_n C dL_law_348 0 rfl ?_
              refine gj_iload C dL_law_349 4 rfl ?_
              refine gj_iconst C dL_law_351 ?_
              refine gj_iadd C dL_law_352 ?_
              refine gl_sld C hX hbl hbA dL_law_353 (fun v353 => ?_)
              refine gx_callVI (t0 := 1) (As := [.int (iI v347), .int (iI v353)]) (rest := []) C E rfl dL_law_354 (mx1_person (cx_l X) g a1 v347 v353) (lw_V q1184 q1185 q1186 q125 q1187) hyx_X1_person rfl hR (Nat.le_of_ble_eq_true rfl) (by decide) rfl rfl (Nat.zero_le _) (fun v354 => ?_)
              refine gx_aload_n C dL_law_357 2 rfl ?_
              refine gj_aload_n C dL_law_358 0 rfl ?_
              refine gj_iload C dL_law_359 4 rfl ?_
              refine gj_iconst C dL_law_361 ?_
              refine gj_iadd C dL_law_362 ?_
              refine gl_sld C hX hbl hbA dL_law_363 (fun v363 => ?_)
              refine gj_aload_n C dL_law_364 0 rfl ?_
              refine gj_iload C dL_law_365 4 rfl ?_
              refine gj_iconst C dL_law_367 ?_
              refine gj_iadd C dL_law_368 ?_
              refine gl_sld C hX hbl hbA dL_law_369 (fun v369 => ?_)
              refine gx_callMI (As := [.int (iI v363), .int (iI v369)]) (rest := [.int (iI v354)]) C E dL_law_370 (fun am => met5_person (cx_l X) (gm g am) v363 v369) (lw_V q2134 q2135 q2136 q134 q2137) hy5_person.2 hy5_person.1 hR (Nat.le_of_ble_eq_true rfl) (by decide) rfl rfl (Nat.le_of_ble_eq_true rfl) (fun v370 => ?_)
              refine gj_icmp_eq (tgt := 1188) C dL_law_373 (by decide) rfl rfl (fun h373 => gj_pos h373 ?_) (fun h373 => gj_neg h373 ?_)
              · exact gj_to [0, 1, 2, 3, 4] (J1188 a4) rfl
              · refine gj_iconst C dL_law_376 ?_
                exact gj_fail
            · refine gj_neg h40_3 ?_
              by_cases h40_4 : w32 (zand v36 31) = 4
              · refine gj_pos h40_4 ?_
                refine gj_tin (tgt := 378) C 4 h40_4 dL_law_40 (by decide) (by decide) rfl (by decide) ?_
                refine gx_aload_n C dL_law_378 1 rfl ?_
                refine gj_aload_n C dL_law_379 0 rfl ?_
                refine gj_iload C dL_law_380 4 rfl ?_
                refine gj_iconst C dL_law_382 ?_
                refine gj_iadd C dL_law_383 ?_
                refine gl_sld C hX hbl hbA dL_law_384 (fun v384 => ?_)
                refine gj_aload_n C dL_law_385 0 rfl ?_
                refine gj_iload C dL_law_386 4 rfl ?_
                refine gj_iconst C dL_law_388 ?_
                refine gj_iadd C dL_law_389 ?_
                refine gl_sld C hX hbl hbA dL_law_390 (fun v390 => ?_)
                refine gx_callVI (t0 := 1) (As := [.int (iI v384), .int (iI v390)]) (rest := []) C E rfl dL_law_391 (mx1_life (cx_l X) g a1 v384 v390) (lw_V q1224 q1225 q1226 q125 q1227) hyx_X1_life rfl hR (Nat.le_of_ble_eq_true rfl) (by decide) rfl rfl (Nat.zero_le _) (fun v391 => ?_)
                refine gx_aload_n C dL_law_394 2 rfl ?_
                refine gj_aload_n C dL_law_395 0 rfl ?_
                refine gj_iload C dL_law_396 4 rfl ?_
                refine gj_iconst C dL_law_398 ?_
                refine gj_iadd C dL_law_399 ?_
                refine gl_sld C hX hbl hbA dL_law_400 (fun v400 => ?_)
                refine gj_aload_n C dL_law_401 0 rfl ?_
                refine gj_iload C dL_law_402 4 rfl ?_
                refine gj_iconst C dL_law_404 ?_
                refine gj_iadd C dL_law_405 ?_
                refine gl_sld C hX hbl hbA dL_law_406 (fun v406 => ?_)
                refine gx_callMI (As := [.int (iI v400), .int (iI v406)]) (rest := [.int (iI v391)]) C E dL_law_407 (fun am => met5_life (cx_l X) (gm g am) v400 v406) (lw_V q2145 q2146 q2147 q134 q2148) hy5_life.2 hy5_life.1 hR (Nat.le_of_ble_eq_true rfl) (by decide) rfl rfl (Nat.le_of_ble_eq_true rfl) (fun v407 => ?_)
                refine gj_icmp_eq (tgt := 1188) C dL_law_410 (by decide) rfl rfl (fun h410 => gj_pos h410 ?_) (fun h410 => gj_neg h410 ?_)
                · exact gj_to [0, 1, 2, 3, 4] (J1188 a4) rfl
                · refine gj_iconst C dL_law_413 ?_
                  exact gj_fail
              · refine gj_neg h40_4 ?_
                by_cases h40_5 : w32 (zand v36 31) = 5
                · refine gj_pos h40_5 ?_
                  refine gj_tin (tgt := 415) C 5 h40_5 dL_law_40 (by decide) (by decide) rfl (by decide) ?_
                  refine gx_aload_n C dL_law_415 1 rfl ?_
                  refine gj_aload_n C dL_law_416 0 rfl ?_
                  refine gj_iload C dL_law_417 4 rfl ?_
                  refine gj_iconst C dL_law_419 ?_
                  refine gj_iadd C dL_law_420 ?_
                  refine gl_sld C hX hbl hbA dL_law_421 (fun v421 => ?_)
                  refine gj_aload_n C dL_law_422 0 rfl ?_
                  refine gj_iload C dL_law_423 4 rfl ?_
                  refine gj_iconst C dL_law_425 ?_
                  refine gj_iadd C dL_law_426 ?_
                  refine gl_sld C hX hbl hbA dL_law_427 (fun v427 => ?_)
                  refine gx_callVI (t0 := 1) (As := [.int (iI v421), .int (iI v427)]) (rest := []) C E rfl dL_law_428 (mx1_may (cx_l X) g a1 v421 v427) (lw_V q1237 q1238 q1239 q125 q1240) hyx_X1_may rfl hR (Nat.le_of_ble_eq_true rfl) (by decide) rfl rfl (Nat.zero_le _) (fun v428 => ?_)
                  refine gx_aload_n C dL_law_431 2 rfl ?_
                  refine gj_aload_n C dL_law_432 0 rfl ?_
                  refine gj_iload C dL_law_433 4 rfl ?_
                  refine gj_iconst C dL_law_435 ?_
                  refine gj_iadd C dL_law_436 ?_
                  refine gl_sld C hX hbl hbA dL_law_437 (fun v437 => ?_)
                  refine gj_aload_n C dL_law_438 0 rfl ?_
                  refine gj_iload C dL_law_439 4 rfl ?_
                  refine gj_iconst C dL_law_441 ?_
                  refine gj_iadd C dL_law_442 ?_
                  refine gl_sld C hX hbl hbA dL_law_443 (fun v443 => ?_)
                  refine gx_callMI (As := [.int (iI v437), .int (iI v443)]) (rest := [.int (iI v428)]) C E dL_law_444 (fun am => met5_may (cx_l X) (gm g am) v437 v443) (lw_V q2153 q2154 q2155 q134 q2156) hy5_may.2 hy5_may.1 hR (Nat.le_of_ble_eq_true rfl) (by decide) rfl rfl (Nat.le_of_ble_eq_true rfl) (fun v444 => ?_)
                  refine gj_icmp_eq (tgt := 1188) C dL_law_447 (by decide) rfl rfl (fun h447 => gj_pos h447 ?_) (fun h447 => gj_neg h447 ?_)
                  · exact gj_to [0, 1, 2, 3, 4] (J1188 a4) rfl
                  · refine gj_iconst C dL_law_450 ?_
                    exact gj_fail
                · refine gj_neg h40_5 ?_
                  by_cases h40_6 : w32 (zand v36 31) = 6
                  · refine gj_pos h40_6 ?_
                    refine gj_tin (tgt := 452) C 6 h40_6 dL_law_40 (by decide) (by decide) rfl (by decide) ?_
                    refine gx_aload_n C dL_law_452 1 rfl ?_
                    refine gj_aload_n C dL_law_453 0 rfl ?_
                    refine gj_iload C dL_law_454 4 rfl ?_
                    refine gj_iconst C dL_law_456 ?_
                    refine gj_iadd C dL_law_457 ?_
                    refine gl_sld C hX hbl hbA dL_law_458 (fun v458 => ?_)
                    refine gj_aload_n C dL_law_459 0 rfl ?_
                    refine gj_iload C dL_law_460 4 rfl ?_
                    refine gj_iconst C dL_law_462 ?_
                    refine gj_iadd C dL_law_463 ?_
                    refine gl_sld C hX hbl hbA dL_law_464 (fun v464 => ?_)
                    refine gx_callVI (t0 := 1) (As := [.int (iI v458), .int (iI v464)]) (rest := []) C E rfl dL_law_465 (mx1_hide (cx_l X) g a1 v458 v464) (lw_V q1444 q1445 q1446 q125 q1447) hyx_X1_hide rfl hR (Nat.le_of_ble_eq_true rfl) (by decide) rfl rfl (Nat.zero_le _) (fun v465 => ?_)
                    refine gx_aload_n C dL_law_468 2 rfl ?_
                    refine gj_aload_n C dL_law_469 0 rfl ?_
                    refine gj_iload C dL_law_470 4 rfl ?_
                    refine gj_iconst C dL_law_472 ?_
                    refine gj_iadd C dL_law_473 ?_
                    refine gl_sld C hX hbl hbA dL_law_474 (fun v474 => ?_)
                    refine gj_aload_n C dL_law_475 0 rfl ?_
                    refine gj_iload C dL_law_476 4 rfl ?_
                    refine gj_iconst C dL_law_478 ?_
                    refine gj_iadd C dL_law_479 ?_
                    refine gl_sld C hX hbl hbA dL_law_480 (fun v480 => ?_)
                    refine gx_callMI (As := [.int (iI v474), .int (iI v480)]) (rest := [.int (iI v465)]) C E dL_law_481 (fun am => met5_hide (cx_l X) (gm g am) v474 v480) (lw_V q2157 q2158 q2159 q134 q2160) hy5_hide.2 hy5_hide.1 hR (Nat.le_of_ble_eq_true rfl) (by decide) rfl rfl (Nat.le_of_ble_eq_true rfl) (fun v481 => ?_)
                    refine gj_icmp_eq (tgt := 1188) C dL_law_484 (by decide) rfl rfl (fun h484 => gj_pos h484 ?_) (fun h484 => gj_neg h484 ?_)
                    · exact gj_to [0, 1, 2, 3, 4] (J1188 a4) rfl
                    · refine gj_iconst C dL_law_487 ?_
                      exact gj_fail
                  · refine gj_neg h40_6 ?_
                    by_cases h40_7 : w32 (zand v36 31) = 7
                    · refine gj_pos h40_7 ?_
                      refine gj_tin (tgt := 489) C 7 h40_7 dL_law_40 (by decide) (by decide) rfl (by decide) ?_
                      refine gx_aload_n C dL_law_489 1 rfl ?_
                      refine gj_aload_n C dL_law_490 0 rfl ?_
                      refine gj_iload C dL_law_491 4 rfl ?_
                      refine gj_iconst C dL_law_493 ?_
                      refine gj_iadd C dL_law_494 ?_
                      refine gl_sld C hX hbl hbA dL_law_495 (fun v495 => ?_)
                      refine gx_callVI (t0 := 1) (As := [.int (iI v495)]) (rest := []) C E rfl dL_law_496 (mx1_lot (cx_l X) g a1 v495) (lw_V q1452 q1453 q1454 q125 q1455) hyx_X1_lot rfl hR (Nat.le_of_ble_eq_true rfl) (by decide) rfl rfl (Nat.zero_le _) (fun v496 => ?_)
                      refine gx_aload_n C dL_law_499 2 rfl ?_
                      refine gj_aload_n C dL_law_500 0 rfl ?_
                      refine gj_iload C dL_law_501 4 rfl ?_
                      refine gj_iconst C dL_law_503 ?_
                      refine gj_iadd C dL_law_504 ?_
                      refine gl_sld C hX hbl hbA dL_law_505 (fun v505 => ?_)
                      refine gx_callMI (As := [.int (iI v505)]) (rest := [.int (iI v496)]) C E dL_law_506 (fun am => met5_lot (cx_l X) (gm g am) v505) (lw_V q2173 q2174 q2175 q134 q2176) hy5_lot.2 hy5_lot.1 hR (Nat.le_of_ble_eq_true rfl) (by decide) rfl rfl (Nat.le_of_ble_eq_true rfl) (fun v506 => ?_)
                      refine gj_icmp_eq (tgt := 1188) C dL_law_509 (by decide) rfl rfl (fun h509 => gj_pos h509 ?_) (fun h509 => gj_neg h509 ?_)
                      · exact gj_to [0, 1, 2, 3, 4] (J1188 a4) rfl
                      · refine gj_iconst C dL_law_512 ?_
                        exact gj_fail
                    · refine gj_neg h40_7 ?_
                      by_cases h40_8 : w32 (zand v36 31) = 8
                      · refine gj_pos h40_8 ?_
                        refine gj_tin (tgt := 514) C 8 h40_8 dL_law_40 (by decide) (by decide) rfl (by decide) ?_
                        refine gx_aload_n C dL_law_514 1 rfl ?_
                        refine gj_aload_n C dL_law_515 0 rfl ?_
                        refine gj_iload C dL_law_516 4 rfl ?_
                        refine gj_iconst C dL_law_518 ?_
                        refine gj_iadd C dL_law_519 ?_
                        refine gl_sld C hX hbl hbA dL_law_520 (fun v520 => ?_)
                        refine gj_aload_n C dL_law_521 0 rfl ?_
                        refine gj_iload C dL_law_522 4 rfl ?_
                        refine gj_iconst C dL_law_524 ?_
                        refine gj_iadd C dL_law_525 ?_
                        refine gl_sld C hX hbl hbA dL_law_526 (fun v526 => ?_)
                        refine gx_callVI (t0 := 1) (As := [.int (iI v520), .int (iI v526)]) (rest := []) C E rfl dL_law_527 (mx1_swap (cx_l X) g a1 v520 v526) (lw_V q1489 q1490 q1491 q125 q1492) hyx_X1_swap rfl hR (Nat.le_of_ble_eq_true rfl) (by decide) rfl rfl (Nat.zero_le _) (fun v527 => ?_)
                        refine gx_aload_n C dL_law_530 2 rfl ?_
                        refine gj_aload_n C dL_law_531 0 rfl ?_
                        refine gj_iload C dL_law_532 4 rfl ?_
                        refine gj_iconst C dL_law_534 ?_
                        refine gj_iadd C dL_law_535 ?_
                        refine gl_sld C hX hbl hbA dL_law_536 (fun v536 => ?_)
                        refine gj_aload_n C dL_law_537 0 rfl ?_
                        refine gj_iload C dL_law_538 4 rfl ?_
                        refine gj_iconst C dL_law_540 ?_
                        refine gj_iadd C dL_law_541 ?_
                        refine gl_sld C hX hbl hbA dL_law_542 (fun v542 => ?_)
                        refine gx_callMI (As := [.int (iI v536), .int (iI v542)]) (rest := [.int (iI v527)]) C E dL_law_543 (fun am => met5_swap (cx_l X) (gm g am) v536 v542) (lw_V q2197 q2198 q2199 q134 q2200) hy5_swap.2 hy5_swap.1 hR (Nat.le_of_ble_eq_true rfl) (by decide) rfl rfl (Nat.le_of_ble_eq_true rfl) (fun v543 => ?_)
                        refine gj_icmp_eq (tgt := 1188) C dL_law_546 (by decide) rfl rfl (fun h546 => gj_pos h546 ?_) (fun h546 => gj_neg h546 ?_)
                        · exact gj_to [0, 1, 2, 3, 4] (J1188 a4) rfl
                        · refine gj_iconst C dL_law_549 ?_
                          exact gj_fail
                      · refine gj_neg h40_8 ?_
                        by_cases h40_9 : w32 (zand v36 31) = 9
                        · refine gj_pos h40_9 ?_
                          refine gj_tin (tgt := 551) C 9 h40_9 dL_law_40 (by decide) (by decide) rfl (by decide) ?_
                          refine gx_aload_n C dL_law_551 1 rfl ?_
                          refine gx_callVI (t0 := 1) (As := []) (rest := []) C E rfl dL_law_552 (mx1_day (cx_l X) g a1) (lw_V q1501 q1502 q1503 q125 q1504) hyx_X1_day rfl hR (Nat.le_of_ble_eq_true rfl) (by decide) rfl rfl (Nat.zero_le _) (fun v552 => ?_)
                          refine gx_aload_n C dL_law_555 2 rfl ?_
                          refine gx_callMI (As := []) (rest := [.int (iI v552)]) C E dL_law_556 (fun am => met5_day (cx_l X) (gm g am)) (lw_V q2213 q2214 q2215 q134 q2216) hy5_day.2 hy5_day.1 hR (Nat.le_of_ble_eq_true rfl) (by decide) rfl rfl (Nat.le_of_ble_eq_true rfl) (fun v556 => ?_)
                          refine gj_icmp_eq (tgt := 1188) C dL_law_559 (by decide) rfl rfl (fun h559 => gj_pos h559 ?_) (fun h559 => gj_neg h559 ?_)
                          · exact gj_to [0, 1, 2, 3, 4] (J1188 a4) rfl
                          · refine gj_iconst C dL_law_562 ?_
                            exact gj_fail
                        · refine gj_neg h40_9 ?_
                          by_cases h40_10 : w32 (zand v36 31) = 10
                          · refine gj_pos h40_10 ?_
                            refine gj_tin (tgt := 564) C 10 h40_10 dL_law_40 (by decide) (by decide) rfl (by decide) ?_
                            refine gx_aload_n C dL_law_564 1 rfl ?_
                            refine gx_callVI (t0 := 1) (As := []) (rest := []) C E rfl dL_law_565 (mx1_home (cx_l X) g a1) (lw_V q1505 q1506 q1507 q125 q1508) hyx_X1_home rfl hR (Nat.le_of_ble_eq_true rfl) (by decide) rfl rfl (Nat.zero_le _) (fun v565 => ?_)
                            refine gx_aload_n C dL_law_568 2 rfl ?_
                            refine gx_callMI (As := []) (rest := [.int (iI v565)]) C E dL_law_569 (fun am => met5_home (cx_l X) (gm g am)) (lw_V q2256 q2257 q2258 q134 q2259) hy5_home.2 hy5_home.1 hR (Nat.le_of_ble_eq_true rfl) (by decide) rfl rfl (Nat.le_of_ble_eq_true rfl) (fun v569 => ?_)
                            refine gj_icmp_eq (tgt := 1188) C dL_law_572 (by decide) rfl rfl (fun h572 => gj_pos h572 ?_) (fun h572 => gj_neg h572 ?_)
                            · exact gj_to [0, 1, 2, 3, 4] (J1188 a4) rfl
                            · refine gj_iconst C dL_law_575 ?_
                              exact gj_fail
                          · refine gj_neg h40_10 ?_
                            by_cases h40_11 : w32 (zand v36 31) = 11
                            · refine gj_pos h40_11 ?_
                              refine gj_tin (tgt := 577) C 11 h40_11 dL_law_40 (by decide) (by decide) rfl (by decide) ?_
                              refine gx_aload_n C dL_law_577 1 rfl ?_
                              refine gx_callVI (t0 := 1) (As := []) (rest := []) C E rfl dL_law_578 (mx1_undo (cx_l X) g a1) (lw_V q1515 q1516 q1517 q125 q1518) hyx_X1_undo rfl hR (Nat.le_of_ble_eq_true rfl) (by decide) rfl rfl (Nat.zero_le _) (fun v578 => ?_)
                              refine gx_aload_n C dL_law_581 2 rfl ?_
                              refine gx_callMI (As := []) (rest := [.int (iI v578)]) C E dL_law_582 (fun am => met5_undo (cx_l X) (gm g am)) (lw_V q2268 q2269 q2270 q134 q2271) hy5_undo.2 hy5_undo.1 hR (Nat.le_of_ble_eq_true rfl) (by decide) rfl rfl (Nat.le_of_ble_eq_true rfl) (fun v582 => ?_)
                              refine gj_icmp_eq (tgt := 1188) C dL_law_585 (by decide) rfl rfl (fun h585 => gj_pos h585 ?_) (fun h585 => gj_neg h585 ?_)
                              · exact gj_to [0, 1, 2, 3, 4] (J1188 a4) rfl
                              · refine gj_iconst C dL_law_588 ?_
                                exact gj_fail
                            · refine gj_neg h40_11 ?_
                              by_cases h40_12 : w32 (zand v36 31) = 12
                              · refine gj_pos h40_12 ?_
                                refine gj_tin (tgt := 590) C 12 h40_12 dL_law_40 (by decide) (by decide) rfl (by decide) ?_
                                refine gx_aload_n C dL_law_590 1 rfl ?_
                                refine gj_aload_n C dL_law_591 0 rfl ?_
                                refine gj_iload C dL_law_592 4 rfl ?_
                                refine gj_iconst C dL_law_594 ?_
                                refine gj_iadd C dL_law_595 ?_
                                refine gl_sld C hX hbl hbA dL_law_596 (fun v596 => ?_)
                                refine gx_callVI (t0 := 1) (As := [.int (iI v596)]) (rest := []) C E rfl dL_law_597 (mx1_judged (cx_l X) g a1 v596) (lw_V q1519 q1520 q1521 q125 q1522) hyx_X1_judged rfl hR (Nat.le_of_ble_eq_true rfl) (by decide) rfl rfl (Nat.zero_le _) (fun v597 => ?_)
                                refine gx_aload_n C dL_law_600 2 rfl ?_
                                refine gj_aload_n C dL_law_601 0 rfl ?_
                                refine gj_iload C dL_law_602 4 rfl ?_
                                refine gj_iconst C dL_law_604 ?_
                                refine gj_iadd C dL_law_605 ?_
                                refine gl_sld C hX hbl hbA dL_law_606 (fun v606 => ?_)
                                refine gx_callMI (As := [.int (iI v606)]) (rest := [.int (iI v597)]) C E dL_law_607 (fun am => met5_judged (cx_l X) (gm g am) v606) (lw_V q2272 q2273 q2274 q134 q2275) hy5_judged.2 hy5_judged.1 hR (Nat.le_of_ble_eq_true rfl) (by decide) rfl rfl (Nat.le_of_ble_eq_true rfl) (fun v607 => ?_)
                                refine gj_icmp_eq (tgt := 1188) C dL_law_610 (by decide) rfl rfl (fun h610 => gj_pos h610 ?_) (fun h610 => gj_neg h610 ?_)
                                · exact gj_to [0, 1, 2, 3, 4] (J1188 a4) rfl
                                · refine gj_iconst C dL_law_613 ?_
                                  exact gj_fail
                              · refine gj_neg h40_12 ?_
                                by_cases h40_13 : w32 (zand v36 31) = 13
                                · refine gj_pos h40_13 ?_
                                  refine gj_tin (tgt := 615) C 13 h40_13 dL_law_40 (by decide) (by decide) rfl (by decide) ?_
                                  refine gx_aload_n C dL_law_615 1 rfl ?_
                                  refine gx_callVI (t0 := 1) (As := []) (rest := []) C E rfl dL_law_616 (mx1_lots (cx_l X) g a1) (lw_V q1246 q1247 q1248 q125 q1249) hyx_X1_lots rfl hR (Nat.le_of_ble_eq_true rfl) (by decide) rfl rfl (Nat.zero_le _) (fun v616 => ?_)
                                  refine gx_aload_n C dL_law_619 2 rfl ?_
                                  refine gx_callMI (As := []) (rest := [.int (iI v616)]) C E dL_law_620 (fun am => met5_lots (cx_l X) (gm g am)) (lw_V q2284 q2285 q2286 q134 q2287) hy5_lots.2 hy5_lots.1 hR (Nat.le_of_ble_eq_true rfl) (by decide) rfl rfl (Nat.le_of_ble_eq_true rfl) (fun v620 => ?_)
                                  refine gj_icmp_eq (tgt := 1188) C dL_law_623 (by decide) rfl rfl (fun h623 => gj_pos h623 ?_) (fun h623 => gj_neg h623 ?_)
                                  · exact gj_to [0, 1, 2, 3, 4] (J1188 a4) rfl
                                  · refine gj_iconst C dL_law_626 ?_
                                    exact gj_fail
                                · refine gj_neg h40_13 ?_
                                  by_cases h40_14 : w32 (zand v36 31) = 14
                                  · refine gj_pos h40_14 ?_
                                    refine gj_tin (tgt := 628) C 14 h40_14 dL_law_40 (by decide) (by decide) rfl (by decide) ?_
                                    refine gx_aload_n C dL_law_628 1 rfl ?_
                                    refine gj_aload_n C dL_law_629 0 rfl ?_
                                    refine gj_iload C dL_law_630 4 rfl ?_
                                    refine gj_iconst C dL_law_632 ?_
                                    refine gj_iadd C dL_law_633 ?_
                                    refine gl_sld C hX hbl hbA dL_law_634 (fun v634 => ?_)
                                    refine gj_aload_n C dL_law_635 0 rfl ?_
                                    refine gj_iload C dL_law_636 4 rfl ?_
                                    refine gj_iconst C dL_law_638 ?_
                                    refine gj_iadd C dL_law_639 ?_
                                    refine gl_sld C hX hbl hbA dL_law_640 (fun v640 => ?_)
                                    refine gx_callVI (t0 := 1) (As := [.int (iI v634), .int (iI v640)]) (rest := []) C E rfl dL_law_641 (mx1_odds (cx_l X) g a1 v634 v640) (lw_V q1439 q1440 q1441 q125 q1442) hyx_X1_odds rfl hR (Nat.le_of_ble_eq_true rfl) (by decide) rfl rfl (Nat.zero_le _) (fun v641 => ?_)
                                    refine gx_aload_n C dL_law_644 2 rfl ?_
                                    refine gj_aload_n C dL_law_645 0 rfl ?_
                                    refine gj_iload C dL_law_646 4 rfl ?_
                                    refine gj_iconst C dL_law_648 ?_
                                    refine gj_iadd C dL_law_649 ?_
                                    refine gl_sld C hX hbl hbA dL_law_650 (fun v650 => ?_)
                                    refine gj_aload_n C dL_law_651 0 rfl ?_
                                    refine gj_iload C dL_law_652 4 rfl ?_
                                    refine gj_iconst C dL_law_654 ?_
                                    refine gj_iadd C dL_law_655 ?_
                                    refine gl_sld C hX hbl hbA dL_law_656 (fun v656 => ?_)
                                    refine gx_callMI (As := [.int (iI v650), .int (iI v656)]) (rest := [.int (iI v641)]) C E dL_law_657 (fun am => met5_odds (cx_l X) (gm g am) v650 v656) (lw_V q2288 q2289 q2290 q134 q2291) hy5_odds.2 hy5_odds.1 hR (Nat.le_of_ble_eq_true rfl) (by decide) rfl rfl (Nat.le_of_ble_eq_true rfl) (fun v657 => ?_)
                                    refine gj_icmp_eq (tgt := 1188) C dL_law_660 (by decide) rfl rfl (fun h660 => gj_pos h660 ?_) (fun h660 => gj_neg h660 ?_)
                                    · exact gj_to [0, 1, 2, 3, 4] (J1188 a4) rfl
                                    · refine gj_iconst C dL_law_663 ?_
                                      exact gj_fail
                                  · refine gj_neg h40_14 ?_
                                    by_cases h40_15 : w32 (zand v36 31) = 15
                                    · refine gj_pos h40_15 ?_
                                      refine gj_tin (tgt := 665) C 15 h40_15 dL_law_40 (by decide) (by decide) rfl (by decide) ?_
                                      refine gx_aload_n C dL_law_665 1 rfl ?_
                                      refine gj_aload_n C dL_law_666 0 rfl ?_
                                      refine gj_iload C dL_law_667 4 rfl ?_
                                      refine gj_iconst C dL_law_669 ?_
                                      refine gj_iadd C dL_law_670 ?_
                                      refine gl_sld C hX hbl hbA dL_law_671 (fun v671 => ?_)
                                      refine gx_callVI (t0 := 1) (As := [.int (iI v671)]) (rest := []) C E rfl dL_law_672 (mx1_least (cx_l X) g a1 v671) (lw_V q1548 q1549 q1550 q125 q1551) hyx_X1_least rfl hR (Nat.le_of_ble_eq_true rfl) (by decide) rfl rfl (Nat.zero_le _) (fun v672 => ?_)
                                      refine gx_aload_n C dL_law_675 2 rfl ?_
                                      refine gj_aload_n C dL_law_676 0 rfl ?_
                                      refine gj_iload C dL_law_677 4 rfl ?_
                                      refine gj_iconst C dL_law_679 ?_
                                      refine gj_iadd C dL_law_680 ?_
                                      refine gl_sld C hX hbl hbA dL_law_681 (fun v681 => ?_)
                                      refine gx_callMI (As := [.int (iI v681)]) (rest := [.int (iI v672)]) C E dL_law_682 (fun am => met5_least (cx_l X) (gm g am) v681) (lw_V q2293 q2294 q2295 q134 q2296) hy5_least.2 hy5_least.1 hR (Nat.le_of_ble_eq_true rfl) (by decide) rfl rfl (Nat.le_of_ble_eq_true rfl) (fun v682 => ?_)
                                      refine gj_icmp_eq (tgt := 1188) C dL_law_685 (by decide) rfl rfl (fun h685 => gj_pos h685 ?_) (fun h685 => gj_neg h685 ?_)
                                      · exact gj_to [0, 1, 2, 3, 4] (J1188 a4) rfl
                                      · refine gj_iconst C dL_law_688 ?_
                                        exact gj_fail
                                    · refine gj_neg h40_15 ?_
                                      by_cases h40_16 : w32 (zand v36 31) = 16
                                      · refine gj_pos h40_16 ?_
                                        refine gj_tin (tgt := 690) C 16 h40_16 dL_law_40 (by decide) (by decide) rfl (by decide) ?_
                                        refine gx_aload_n C dL_law_690 1 rfl ?_
                                        refine gj_aload_n C dL_law_691 0 rfl ?_
                                        refine gj_iload C dL_law_692 4 rfl ?_
                                        refine gj_iconst C dL_law_694 ?_
                                        refine gj_iadd C dL_law_695 ?_
                                        refine gl_sld C hX hbl hbA dL_law_696 (fun v696 => ?_)
                                        refine gj_aload_n C dL_law_697 0 rfl ?_
                                        refine gj_iload C dL_law_698 4 rfl ?_
                                        refine gj_iconst C dL_law_700 ?_
                                        refine gj_iadd C dL_law_701 ?_
                                        refine gl_sld C hX hbl hbA dL_law_702 (fun v702 => ?_)
                                        refine gx_callVI (t0 := 1) (As := [.int (iI v696), .int (iI v702)]) (rest := []) C E rfl dL_law_703 (mx1_prepare (cx_l X) g a1 v696 v702) (lw_V q1572 q1573 q1574 q125 q1575) hyx_X1_prepare rfl hR (Nat.le_of_ble_eq_true rfl) (by decide) rfl rfl (Nat.zero_le _) (fun v703 => ?_)
                                        refine gx_aload_n C dL_law_706 2 rfl ?_
                                        refine gj_aload_n C dL_law_707 0 rfl ?_
                                        refine gj_iload C dL_law_708 4 rfl ?_
                                        refine gj_iconst C dL_law_710 ?_
                                        refine gj_iadd C dL_law_711 ?_
                                        refine gl_sld C hX hbl hbA dL_law_712 (fun v712 => ?_)
                                        refine gj_aload_n C dL_law_713 0 rfl ?_
                                        refine gj_iload C dL_law_714 4 rfl ?_
                                        refine gj_iconst C dL_law_716 ?_
                                        refine gj_iadd C dL_law_717 ?_
                                        refine gl_sld C hX hbl hbA dL_law_718 (fun v718 => ?_)
                                        refine gx_callMI (As := [.int (iI v712), .int (iI v718)]) (rest := [.int (iI v703)]) C E dL_law_719 (fun am => met5_prepare (cx_l X) (gm g am) v712 v718) (lw_V q2301 q2302 q2303 q134 q2304) hy5_prepare.2 hy5_prepare.1 hR (Nat.le_of_ble_eq_true rfl) (by decide) rfl rfl (Nat.le_of_ble_eq_true rfl) (fun v719 => ?_)
                                        refine gj_icmp_eq (tgt := 1188) C dL_law_722 (by decide) rfl rfl (fun h722 => gj_pos h722 ?_) (fun h722 => gj_neg h722 ?_)
                                        · exact gj_to [0, 1, 2, 3, 4] (J1188 a4) rfl
                                        · refine gj_iconst C dL_law_725 ?_
                                          exact gj_fail
                                      · refine gj_neg h40_16 ?_
                                        by_cases h40_17 : w32 (zand v36 31) = 17
                                        · refine gj_pos h40_17 ?_
                                          refine gj_tin (tgt := 727) C 17 h40_17 dL_law_40 (by decide) (by decide) rfl (by decide) ?_
                                          refine gx_aload_n C dL_law_727 1 rfl ?_
                                          refine gj_aload_n C dL_law_728 0 rfl ?_
                                          refine gj_iload C dL_law_729 4 rfl ?_
                                          refine gj_iconst C dL_law_731 ?_
                                          refine gj_iadd C dL_law_732 ?_
                                          refine gl_sld C hX hbl hbA dL_law_733 (fun v733 => ?_)
                                          refine gj_aload_n C dL_law_734 0 rfl ?_
                                          refine gj_iload C dL_law_735 4 rfl ?_
                                          refine gj_iconst C dL_law_737 ?_
                                          refine gj_iadd C dL_law_738 ?_
                                          refine gl_sld C hX hbl hbA dL_law_739 (fun v739 => ?_)
                                          refine gj_aload_n C dL_law_740 0 rfl ?_
                                          refine gj_iload C dL_law_741 4 rfl ?_
                                          refine gj_iconst C dL_law_743 ?_
                                          refine gj_iadd C dL_law_744 ?_
                                          refine gl_sld C hX hbl hbA dL_law_745 (fun v745 => ?_)
                                          refine gj_aload_n C dL_law_746 0 rfl ?_
                                          refine gj_iload C dL_law_747 4 rfl ?_
                                          refine gj_iconst C dL_law_749 ?_
                                          refine gj_iadd C dL_law_750 ?_
                                          refine gl_sld C hX hbl hbA dL_law_751 (fun v751 => ?_)
                                          refine gx_aload_n C dL_law_752 3 rfl ?_
                                          refine gx_callSWI (As := [rv g a1, .int (iI v733), .int (iI v739), .int (iI v745), .int (iI v751), rv g a3]) (rest := []) C E dL_law_753 (mx0_deeds (cx_l X) g hst a1 v733 v739 v745 v751 a3) (lw_SW q1735 q1736 q124 q1737) hyx_X0_deeds hR (Nat.le_of_ble_eq_true rfl) (by decide) rfl rfl (Nat.zero_le _) (fun v753 => ?_)
                                          refine gj_istore (L' := [(5, _), (0, _), (1, _), (2, _), (3, _), (4, _)]) C dL_law_756 (by decide) rfl ?_
                                          refine gx_aload_n C dL_law_758 3 rfl ?_
                                          refine gj_aload_n C dL_law_759 1 rfl ?_
                                          refine gj_iload C dL_law_760 5 rfl ?_
                                          refine gj_iconst C dL_law_762 ?_
                                          refine gj_iadd C dL_law_763 ?_
                                          refine gl_sld C hX hbl hbA dL_law_764 (fun v764 => ?_)
                                          refine gj_aload_n C dL_law_765 1 rfl ?_
                                          refine gj_iload C dL_law_766 5 rfl ?_
                                          refine gj_iconst C dL_law_768 ?_
                                          refine gj_iadd C dL_law_769 ?_
                                          refine gl_sld C hX hbl hbA dL_law_770 (fun v770 => ?_)
                                          refine gj_aload_n C dL_law_771 1 rfl ?_
                                          refine gj_iload C dL_law_772 5 rfl ?_
                                          refine gj_iconst C dL_law_774 ?_
                                          refine gj_iadd C dL_law_775 ?_
                                          refine gl_sld C hX hbl hbA dL_law_776 (fun v776 => ?_)
                                          refine gj_aload_n C dL_law_777 1 rfl ?_
                                          refine gj_iload C dL_law_778 5 rfl ?_
                                          refine gj_iconst C dL_law_780 ?_
                                          refine gj_iadd C dL_law_781 ?_
                                          refine gl_sld C hX hbl hbA dL_law_782 (fun v782 => ?_)
                                          refine gx_callMI (As := [.int (iI v764), .int (iI v770), .int (iI v776), .int (iI v782)]) (rest := []) C E dL_law_783 (fun am => met5_deeds (cx_l X) (gm g am) v764 v770 v776 v782) (lw_V q2311 q2312 q2313 q134 q2314) hy5_deeds.2 hy5_deeds.1 hR (Nat.le_of_ble_eq_true rfl) (by decide) rfl rfl (Nat.zero_le _) (fun v783 => ?_)
                                          refine gj_istore (L' := [(6, _), (5, _), (0, _), (1, _), (2, _), (3, _), (4, _)]) C dL_law_786 (by decide) rfl ?_
                                          refine gx_aload_n C dL_law_788 4 rfl ?_
                                          refine gx_callMI (As := []) (rest := []) C E dL_law_789 (fun am => met5_thrown (cx_l X) (gm g am)) (lw_V q1794 q1795 q1796 q134 q1797) hy5_thrown.2 hy5_thrown.1 hR (Nat.le_of_ble_eq_true rfl) (by decide) rfl rfl (Nat.zero_le _) (fun v789 => ?_)
                                          refine gj_iload C dL_law_792 1 rfl ?_
                                          refine gj_icmp_eq (tgt := 799) C dL_law_794 (by decide) rfl rfl (fun h794 => gj_pos h794 ?_) (fun h794 => gj_neg h794 ?_)
                                          · refine gj_iload C dL_law_799 1 rfl ?_
                                            refine gj_if_ne (tgt := 816) C dL_law_801 (by decide) (fun h801 => gj_neg h801 ?_) (fun h801 => gj_pos h801 ?_)
                                            · exact gj_to [2, 3, 4, 5, 6] (J816 a4) rfl
                                            · refine gx_aload_n C dL_law_804 5 rfl ?_
                                              refine gj_iconst C dL_law_805 ?_
                                              refine gx_lald C E dL_law_806 (fun v806 => ?_)
                                              refine gj_iload C dL_law_807 0 rfl ?_
                                              refine gj_i2l C dL_law_809 ?_
                                              refine gj_lcmp C dL_law_810 ?_
                                              refine gj_if_eq (tgt := 816) C dL_law_811 (by decide) (fun h811 => gj_pos h811 ?_) (fun h811 => gj_neg h811 ?_)
                                              · exact gj_to [2, 3, 4, 5, 6] (J816 a4) rfl
                                              · refine gj_iconst C dL_law_814 ?_
                                                exact gj_fail
                                          · refine gj_iconst C dL_law_797 ?_
                                            exact gj_fail
                                        · refine gj_neg h40_17 ?_
                                          by_cases h40_18 : w32 (zand v36 31) = 18
                                          · refine gj_pos h40_18 ?_
                                            refine gj_tin (tgt := 819) C 18 h40_18 dL_law_40 (by decide) (by decide) rfl (by decide) ?_
                                            refine gx_aload_n C dL_law_819 1 rfl ?_
                                            refine gj_aload_n C dL_law_820 0 rfl ?_
                                            refine gj_iload C dL_law_821 4 rfl ?_
                                            refine gj_iconst C dL_law_823 ?_
                                            refine gj_iadd C dL_law_824 ?_
                                            refine gl_sld C hX hbl hbA dL_law_825 (fun v825 => ?_)
                                            refine gx_callVI (t0 := 1) (As := [.int (iI v825)]) (rest := []) C E rfl dL_law_826 (mx1_pairs (cx_l X) g a1 v825) (lw_V q1603 q1604 q1605 q125 q1606) hyx_X1_pairs rfl hR (Nat.le_of_ble_eq_true rfl) (by decide) rfl rfl (Nat.zero_le _) (fun v826 => ?_)
                                            refine gx_aload_n C dL_law_829 2 rfl ?_
                                            refine gj_aload_n C dL_law_830 0 rfl ?_
                                            refine gj_iload C dL_law_831 4 rfl ?_
                                            refine gj_iconst C dL_law_833 ?_
                                            refine gj_iadd C dL_law_834 ?_
                                            refine gl_sld C hX hbl hbA dL_law_835 (fun v835 => ?_)
                                            refine gx_callMI (As := [.int (iI v835)]) (rest := [.int (iI v826)]) C E dL_law_836 (fun am => met5_pairs (cx_l X) (gm g am) v835) (lw_V q2323 q2324 q2325 q134 q2326) hy5_pairs.2 hy5_pairs.1 hR (Nat.le_of_ble_eq_true rfl) (by decide) rfl rfl (Nat.le_of_ble_eq_true rfl) (fun v836 => ?_)
                                            refine gj_icmp_eq (tgt := 1188) C dL_law_839 (by decide) rfl rfl (fun h839 => gj_pos h839 ?_) (fun h839 => gj_neg h839 ?_)
                                            · exact gj_to [0, 1, 2, 3, 4] (J1188 a4) rfl
                                            · refine gj_iconst C dL_law_842 ?_
                                              exact gj_fail
                                          · refine gj_neg h40_18 ?_
                                            by_cases h40_19 : w32 (zand v36 31) = 19
                                            · refine gj_pos h40_19 ?_
                                              refine gj_tin (tgt := 844) C 19 h40_19 dL_law_40 (by decide) (by decide) rfl (by decide) ?_
                                              refine gx_aload_n C dL_law_844 1 rfl ?_
                                              refine gj_aload_n C dL_law_845 0 rfl ?_
                                              refine gj_iload C dL_law_846 4 rfl ?_
                                              refine gj_iconst C dL_law_848 ?_
                                              refine gj_iadd C dL_law_849 ?_
                                              refine gl_sld C hX hbl hbA dL_law_850 (fun v850 => ?_)
                                              refine gj_aload_n C dL_law_851 0 rfl ?_
                                              refine gj_iload C dL_law_852 4 rfl ?_
                                              refine gj_iconst C dL_law_854 ?_
                                              refine gj_iadd C dL_law_855 ?_
                                              refine gl_sld C hX hbl hbA dL_law_856 (fun v856 => ?_)
                                              refine gj_aload_n C dL_law_857 0 rfl ?_
                                              refine gj_iload C dL_law_858 4 rfl ?_
                                              refine gj_iconst C dL_law_860 ?_
                                              refine gj_iadd C dL_law_861 ?_
                                              refine gl_sld C hX hbl hbA dL_law_862 (fun v862 => ?_)
                                              refine gx_callVI (t0 := 1) (As := [.int (iI v850), .int (iI v856), .int (iI v862)]) (rest := []) C E rfl dL_law_863 (mx1_tale (cx_l X) g a1 v850 v856 v862) (lw_V q1619 q1620 q1621 q125 q1622) hyx_X1_tale rfl hR (Nat.le_of_ble_eq_true rfl) (by decide) rfl rfl (Nat.zero_le _) (fun v863 => ?_)
                                              refine gx_aload_n C dL_law_866 2 rfl ?_
                                              refine gj_aload_n C dL_law_867 0 rfl ?_
                                              refine gj_iload C dL_law_868 4 rfl ?_
                                              refine gj_iconst C dL_law_870 ?_
                                              refine gj_iadd C dL_law_871 ?_
                                              refine gl_sld C hX hbl hbA dL_law_872 (fun v872 => ?_)
                                              refine gj_aload_n C dL_law_873 0 rfl ?_
                                              refine gj_iload C dL_law_874 4 rfl ?_
                                              refine gj_iconst C dL_law_876 ?_
                                              refine gj_iadd C dL_law_877 ?_
                                              refine gl_sld C hX hbl hbA dL_law_878 (fun v878 => ?_)
                                              refine gj_aload_n C dL_law_879 0 rfl ?_
                                              refine gj_iload C dL_law_880 4 rfl ?_
                                              refine gj_iconst C dL_law_882 ?_
                                              refine gj_iadd C dL_law_883 ?_
                                              refine gl_sld C hX hbl hbA dL_law_884 (fun v884 => ?_)
                                              refine gx_callMI (As := [.int (iI v872), .int (iI v878), .int (iI v884)]) (rest := [.int (iI v863)]) C E dL_law_885 (fun am => met5_tale (cx_l X) (gm g am) v872 v878 v884) (lw_V q2335 q2336 q2337 q134 q2338) hy5_tale.2 hy5_tale.1 hR (Nat.le_of_ble_eq_true rfl) (by decide) rfl rfl (Nat.le_of_ble_eq_true rfl) (fun v885 => ?_)
                                              refine gj_icmp_eq (tgt := 1188) C dL_law_888 (by decide) rfl rfl (fun h888 => gj_pos h888 ?_) (fun h888 => gj_neg h888 ?_)
                                              · exact gj_to [0, 1, 2, 3, 4] (J1188 a4) rfl
                                              · refine gj_iconst C dL_law_891 ?_
                                                exact gj_fail
                                            · refine gj_neg h40_19 ?_
                                              by_cases h40_20 : w32 (zand v36 31) = 20
                                              · refine gj_pos h40_20 ?_
                                                refine gj_tin (tgt := 893) C 20 h40_20 dL_law_40 (by decide) (by decide) rfl (by decide) ?_
                                                refine gx_aload_n C dL_law_893 1 rfl ?_
                                                refine gx_callVI (t0 := 1) (As := []) (rest := []) C E rfl dL_law_894 (mx1_how (cx_l X) g a1) (lw_V q1623 q1624 q1625 q125 q1626) hyx_X1_how rfl hR (Nat.le_of_ble_eq_true rfl) (by decide) rfl rfl (Nat.zero_le _) (fun v894 => ?_)
                                                refine gx_aload_n C dL_law_897 2 rfl ?_
                                                refine gx_callMI (As := []) (rest := [.int (iI v894)]) C E dL_law_898 (fun am => met5_how (cx_l X) (gm g am)) (lw_V q2339 q2340 q2341 q134 q2342) hy5_how.2 hy5_how.1 hR (Nat.le_of_ble_eq_true rfl) (by decide) rfl rfl (Nat.le_of_ble_eq_true rfl) (fun v898 => ?_)
                                                refine gj_icmp_eq (tgt := 1188) C dL_law_901 (by decide) rfl rfl (fun h901 => gj_pos h901 ?_) (fun h901 => gj_neg h901 ?_)
                                                · exact gj_to [0, 1, 2, 3, 4] (J1188 a4) rfl
                                                · refine gj_iconst C dL_law_904 ?_
                                                  exact gj_fail
                                              · refine gj_neg h40_20 ?_
                                                by_cases h40_21 : w32 (zand v36 31) = 21
                                                · refine gj_pos h40_21 ?_
                                                  refine gj_tin (tgt := 906) C 21 h40_21 dL_law_40 (by decide) (by decide) rfl (by decide) ?_
                                                  refine gx_aload_n C dL_law_906 1 rfl ?_
                                                  refine gj_aload_n C dL_law_907 0 rfl ?_
                                                  refine gj_iload C dL_law_908 4 rfl ?_
                                                  refine gj_iconst C dL_law_910 ?_
                                                  refine gj_iadd C dL_law_911 ?_
                                                  refine gl_sld C hX hbl hbA dL_law_912 (fun v912 => ?_)
                                                  refine gx_callVI (t0 := 1) (As := [.int (iI v912)]) (rest := []) C E rfl dL_law_913 (mx1_who (cx_l X) g a1 v912) (lw_V q1647 q1648 q1649 q125 q1650) hyx_X1_who rfl hR (Nat.le_of_ble_eq_true rfl) (by decide) rfl rfl (Nat.zero_le _) (fun v913 => ?_)
                                                  refine gx_aload_n C dL_law_916 2 rfl ?_
                                                  refine gj_aload_n C dL_law_917 0 rfl ?_
                                                  refine gj_iload C dL_law_918 4 rfl ?_
                                                  refine gj_iconst C dL_law_920 ?_
                                                  refine gj_iadd C dL_law_921 ?_
                                                  refine gl_sld C hX hbl hbA dL_law_922 (fun v922 => ?_)
                                                  refine gx_callMI (As := [.int (iI v922)]) (rest := [.int (iI v913)]) C E dL_law_923 (fun am => met5_who (cx_l X) (gm g am) v922) (lw_V q2351 q2352 q2353 q134 q2354) hy5_who.2 hy5_who.1 hR (Nat.le_of_ble_eq_true rfl) (by decide) rfl rfl (Nat.le_of_ble_eq_true rfl) (fun v923 => ?_)
                                                  refine gj_icmp_eq (tgt := 1188) C dL_law_926 (by decide) rfl rfl (fun h926 => gj_pos h926 ?_) (fun h926 => gj_neg h926 ?_)
                                                  · exact gj_to [0, 1, 2, 3, 4] (J1188 a4) rfl
                                                  · refine gj_iconst C dL_law_929 ?_
                                                    exact gj_fail
                                                · refine gj_neg h40_21 ?_
                                                  by_cases h40_22 : w32 (zand v36 31) = 22
                                                  · refine gj_pos h40_22 ?_
                                                    refine gj_tin (tgt := 931) C 22 h40_22 dL_law_40 (by decide) (by decide) rfl (by decide) ?_
                                                    refine gx_aload_n C dL_law_931 1 rfl ?_
                                                    refine gx_callVI (t0 := 1) (As := []) (rest := []) C E rfl dL_law_932 (mx1_ask (cx_l X) g a1) (lw_V q1661 q1662 q1663 q125 q1664) hyx_X1_ask rfl hR (Nat.le_of_ble_eq_true rfl) (by decide) rfl rfl (Nat.zero_le _) (fun v932 => ?_)
                                                    refine gx_aload_n C dL_law_935 2 rfl ?_
                                                    refine gx_callMI (As := []) (rest := [.int (iI v932)]) C E dL_law_936 (fun am => met5_ask (cx_l X) (gm g am)) (lw_V q2355 q2356 q2357 q134 q2358) hy5_ask.2 hy5_ask.1 hR (Nat.le_of_ble_eq_true rfl) (by decide) rfl rfl (Nat.le_of_ble_eq_true rfl) (fun v936 => ?_)
                                                    refine gj_icmp_eq (tgt := 1188) C dL_law_939 (by decide) rfl rfl (fun h939 => gj_pos h939 ?_) (fun h939 => gj_neg h939 ?_)
                                                    · exact gj_to [0, 1, 2, 3, 4] (J1188 a4) rfl
                                                    · refine gj_iconst C dL_law_942 ?_
                                                      exact gj_fail
                                                  · refine gj_neg h40_22 ?_
                                                    by_cases h40_23 : w32 (zand v36 31) = 23
                                                    · refine gj_pos h40_23 ?_
                                                      refine gj_tin (tgt := 944) C 23 h40_23 dL_law_40 (by decide) (by decide) rfl (by decide) ?_
                                                      refine gx_aload_n C dL_law_944 1 rfl ?_
                                                      refine gj_aload_n C dL_law_945 0 rfl ?_
                                                      refine gj_iload C dL_law_946 4 rfl ?_
                                                      refine gj_iconst C dL_law_948 ?_
                                                      refine gj_iadd C dL_law_949 ?_
                                                      refine gl_sld C hX hbl hbA dL_law_950 (fun v950 => ?_)
                                                      refine gx_callVI (t0 := 1) (As := [.int (iI v950)]) (rest := []) C E rfl dL_law_951 (mx1_law (cx_l X) g a1 v950) (lw_V q1599 q1600 q1601 q125 q1602) hyx_X1_law rfl hR (Nat.le_of_ble_eq_true rfl) (by decide) rfl rfl (Nat.zero_le _) (fun v951 => ?_)
                                                      refine gx_aload_n C dL_law_954 2 rfl ?_
                                                      refine gj_aload_n C dL_law_955 0 rfl ?_
                                                      refine gj_iload C dL_law_956 4 rfl ?_
                                                      refine gj_iconst C dL_law_958 ?_
                                                      refine gj_iadd C dL_law_959 ?_
                                                      refine gl_sld C hX hbl hbA dL_law_960 (fun v960 => ?_)
                                                      refine gx_callMI (As := [.int (iI v960)]) (rest := [.int (iI v951)]) C E dL_law_961 (fun am => met5_law (cx_l X) (gm g am) v960) (lw_V q2307 q2308 q2309 q134 q2310) hy5_law.2 hy5_law.1 hR (Nat.le_of_ble_eq_true rfl) (by decide) rfl rfl (Nat.le_of_ble_eq_true rfl) (fun v961 => ?_)
                                                      refine gj_icmp_eq (tgt := 1188) C dL_law_964 (by decide) rfl rfl (fun h964 => gj_pos h964 ?_) (fun h964 => gj_neg h964 ?_)
                                                      · exact gj_to [0, 1, 2, 3, 4] (J1188 a4) rfl
                                                      · refine gj_iconst C dL_law_967 ?_
                                                        exact gj_fail
                                                    · refine gj_neg h40_23 ?_
                                                      by_cases h40_24 : w32 (zand v36 31) = 24
                                                      · refine gj_pos h40_24 ?_
                                                        refine gj_tin (tgt := 969) C 24 h40_24 dL_law_40 (by decide) (by decide) rfl (by decide) ?_
                                                        refine gx_aload_n C dL_law_969 1 rfl ?_
                                                        refine gj_aload_n C dL_law_970 0 rfl ?_
                                                        refine gj_iload C dL_law_971 4 rfl ?_
                                                        refine gj_iconst C dL_law_973 ?_
                                                        refine gj_iadd C dL_law_974 ?_
                                                        refine gl_sld C hX hbl hbA dL_law_975 (fun v975 => ?_)
                                                        refine gj_aload_n C dL_law_976 0 rfl ?_
                                                        refine gj_iload C dL_law_977 4 rfl ?_
                                                        refine gj_iconst C dL_law_979 ?_
                                                        refine gj_iadd C dL_law_980 ?_
                                                        refine gl_sld C hX hbl hbA dL_law_981 (fun v981 => ?_)
                                                        refine gj_aload_n C dL_law_982 0 rfl ?_
                                                        refine gj_iload C dL_law_983 4 rfl ?_
                                                        refine gj_iconst C dL_law_985 ?_
                                                        refine gj_iadd C dL_law_986 ?_
                                                        refine gl_sld C hX hbl hbA dL_law_987 (fun v987 => ?_)
                                                        refine gj_aload_n C dL_law_988 0 rfl ?_
                                                        refine gj_iload C dL_law_989 4 rfl ?_
                                                        refine gj_iconst C dL_law_991 ?_
                                                        refine gj_iadd C dL_law_992 ?_
                                                        refine gl_sld C hX hbl hbA dL_law_993 (fun v993 => ?_)
                                                        refine gx_aload_n C dL_law_994 3 rfl ?_
                                                        refine gx_callSWI (As := [rv g a1, .int (iI v975), .int (iI v981), .int (iI v987), .int (iI v993), rv g a3]) (rest := []) C E dL_law_995 (mx0_rests (cx_l X) g hst a1 v975 v981 v987 v993 a3) (lw_SW q1781 q1782 q124 q1783) hyx_X0_rests hR (Nat.le_of_ble_eq_true rfl) (by decide) rfl rfl (Nat.zero_le _) (fun v995 => ?_)
                                                        refine gj_istore (L' := [(5, _), (0, _), (1, _), (2, _), (3, _), (4, _)]) C dL_law_998 (by decide) rfl ?_
                                                        refine gx_aload_n C dL_law_1000 3 rfl ?_
                                                        refine gj_aload_n C dL_law_1001 1 rfl ?_
                                                        refine gj_iload C dL_law_1002 5 rfl ?_
                                                        refine gj_iconst C dL_law_1004 ?_
                                                        refine gj_iadd C dL_law_1005 ?_
                                                        refine gl_sld C hX hbl hbA dL_law_1006 (fun v1006 => ?_)
                                                        refine gj_aload_n C dL_law_1007 1 rfl ?_
                                                        refine gj_iload C dL_law_1008 5 rfl ?_
                                                        refine gj_iconst C dL_law_1010 ?_
                                                        refine gj_iadd C dL_law_1011 ?_
                                                        refine gl_sld C hX hbl hbA dL_law_1012 (fun v1012 => ?_)
                                                        refine gj_aload_n C dL_law_1013 1 rfl ?_
                                                        refine gj_iload C dL_law_1014 5 rfl ?_
                                                        refine gj_iconst C dL_law_1016 ?_
                                                        refine gj_iadd C dL_law_1017 ?_
                                                        refine gl_sld C hX hbl hbA dL_law_1018 (fun v1018 => ?_)
                                                        refine gj_aload_n C dL_law_1019 1 rfl ?_
                                                        refine gj_iload C dL_law_1020 5 rfl ?_
                                                        refine gj_iconst C dL_law_1022 ?_
                                                        refine gj_iadd C dL_law_1023 ?_
                                                        refine gl_sld C hX hbl hbA dL_law_1024 (fun v1024 => ?_)
                                                        refine gx_callMI (As := [.int (iI v1006), .int (iI v1012), .int (iI v1018), .int (iI v1024)]) (rest := []) C E dL_law_1025 (fun am => met5_rests (cx_l X) (gm g am) v1006 v1012 v1018 v1024) (lw_V q2367 q2368 q2369 q134 q2370) hy5_rests.2 hy5_rests.1 hR (Nat.le_of_ble_eq_true rfl) (by decide) rfl rfl (Nat.zero_le _) (fun v1025 => ?_)
                                                        refine gj_istore (L' := [(6, _), (5, _), (0, _), (1, _), (2, _), (3, _), (4, _)]) C dL_law_1028 (by decide) rfl ?_
                                                        refine gx_aload_n C dL_law_1030 4 rfl ?_
                                                        refine gx_callMI (As := []) (rest := []) C E dL_law_1031 (fun am => met5_thrown (cx_l X) (gm g am)) (lw_V q1794 q1795 q1796 q134 q1797) hy5_thrown.2 hy5_thrown.1 hR (Nat.le_of_ble_eq_true rfl) (by decide) rfl rfl (Nat.zero_le _) (fun v1031 => ?_)
                                                        refine gj_iload C dL_law_1034 1 rfl ?_
                                                        refine gj_icmp_eq (tgt := 1041) C dL_law_1036 (by decide) rfl rfl (fun h1036 => gj_pos h1036 ?_) (fun h1036 => gj_neg h1036 ?_)
                                                        · refine gj_iload C dL_law_1041 1 rfl ?_
                                                          refine gj_if_ne (tgt := 1058) C dL_law_1043 (by decide) (fun h1043 => gj_neg h1043 ?_) (fun h1043 => gj_pos h1043 ?_)
                                                          · exact gj_to [2, 3, 4, 5, 6] (J1058 a4) rfl
                                                          · refine gx_aload_n C dL_law_1046 5 rfl ?_
                                                            refine gj_iconst C dL_law_1047 ?_
                                                            refine gx_lald C E dL_law_1048 (fun v1048 => ?_)
                                                            refine gj_iload C dL_law_1049 0 rfl ?_
                                                            refine gj_i2l C dL_law_1051 ?_
                                                            refine gj_lcmp C dL_law_1052 ?_
                                                            refine gj_if_eq (tgt := 1058) C dL_law_1053 (by decide) (fun h1053 => gj_pos h1053 ?_) (fun h1053 => gj_neg h1053 ?_)
                                                            · exact gj_to [2, 3, 4, 5, 6] (J1058 a4) rfl
                                                            · refine gj_iconst C dL_law_1056 ?_
                                                              exact gj_fail
                                                        · refine gj_iconst C dL_law_1039 ?_
                                                          exact gj_fail
                                                      · refine gj_neg h40_24 ?_
                                                        by_cases h40_25 : w32 (zand v36 31) = 25
                                                        · refine gj_pos h40_25 ?_
                                                          refine gj_tin (tgt := 1061) C 25 h40_25 dL_law_40 (by decide) (by decide) rfl (by decide) ?_
                                                          refine gx_aload_n C dL_law_1061 1 rfl ?_
                                                          refine gj_aload_n C dL_law_1062 0 rfl ?_
                                                          refine gj_iload C dL_law_1063 4 rfl ?_
                                                          refine gj_iconst C dL_law_1065 ?_
                                                          refine gj_iadd C dL_law_1066 ?_
                                                          refine gl_sld C hX hbl hbA dL_law_1067 (fun v1067 => ?_)
                                                          refine gj_aload_n C dL_law_1068 0 rfl ?_
                                                          refine gj_iload C dL_law_1069 4 rfl ?_
                                                          refine gj_iconst C dL_law_1071 ?_
                                                          refine gj_iadd C dL_law_1072 ?_
                                                          refine gl_sld C hX hbl hbA dL_law_1073 (fun v1073 => ?_)
                                                          refine gj_aload_n C dL_law_1074 0 rfl ?_
                                                          refine gj_iload C dL_law_1075 4 rfl ?_
                                                          refine gj_iconst C dL_law_1077 ?_
                                                          refine gj_iadd C dL_law_1078 ?_
                                                          refine gl_sld C hX hbl hbA dL_law_1079 (fun v1079 => ?_)
                                                          refine gx_callVI (t0 := 1) (As := [.int (iI v1067), .int (iI v1073), .int (iI v1079)]) (rest := []) C E rfl dL_law_1080 (mx1_years (cx_l X) g a1 v1067 v1073 v1079) (lw_V q1688 q1689 q1690 q125 q1691) hyx_X1_years rfl hR (Nat.le_of_ble_eq_true rfl) (by decide) rfl rfl (Nat.zero_le _) (fun v1080 => ?_)
                                                          refine gx_aload_n C dL_law_1083 2 rfl ?_
                                                          refine gj_aload_n C dL_law_1084 0 rfl ?_
                                                          refine gj_iload C dL_law_1085 4 rfl ?_
                                                          refine gj_iconst C dL_law_1087 ?_
                                                          refine gj_iadd C dL_law_1088 ?_
                                                          refine gl_sld C hX hbl hbA dL_law_1089 (fun v1089 => ?_)
                                                          refine gj_aload_n C dL_law_1090 0 rfl ?_
                                                          refine gj_iload C dL_law_1091 4 rfl ?_
                                                          refine gj_iconst C dL_law_1093 ?_
                                                          refine gj_iadd C dL_law_1094 ?_
                                                          refine gl_sld C hX hbl hbA dL_law_1095 (fun v1095 => ?_)
                                                          refine gj_aload_n C dL_law_1096 0 rfl ?_
                                                          refine gj_iload C dL_law_1097 4 rfl ?_
                                                          refine gj_iconst C dL_law_1099 ?_
                                                          refine gj_iadd C dL_law_1100 ?_
                                                          refine gl_sld C hX hbl hbA dL_law_1101 (fun v1101 => ?_)
                                                          refine gx_callMI (As := [.int (iI v1089), .int (iI v1095), .int (iI v1101)]) (rest := [.int (iI v1080)]) C E dL_law_1102 (fun am => met5_years (cx_l X) (gm g am) v1089 v1095 v1101) (lw_V q2374 q2375 q2376 q134 q2377) hy5_years.2 hy5_years.1 hR (Nat.le_of_ble_eq_true rfl) (by decide) rfl rfl (Nat.le_of_ble_eq_true rfl) (fun v1102 => ?_)
                                                          refine gj_icmp_eq (tgt := 1188) C dL_law_1105 (by decide) rfl rfl (fun h1105 => gj_pos h1105 ?_) (fun h1105 => gj_neg h1105 ?_)
                                                          · exact gj_to [0, 1, 2, 3, 4] (J1188 a4) rfl
                                                          · refine gj_iconst C dL_law_1108 ?_
                                                            exact gj_fail
                                                        · refine gj_neg h40_25 ?_
                                                          by_cases h40_26 : w32 (zand v36 31) = 26
                                                          · refine gj_pos h40_26 ?_
                                                            refine gj_tin (tgt := 1110) C 26 h40_26 dL_law_40 (by decide) (by decide) rfl (by decide) ?_
                                                            refine gx_aload_n C dL_law_1110 1 rfl ?_
                                                            refine gj_aload_n C dL_law_1111 0 rfl ?_
                                                            refine gj_iload C dL_law_1112 4 rfl ?_
                                                            refine gj_iconst C dL_law_1114 ?_
                                                            refine gj_iadd C dL_law_1115 ?_
                                                            refine gl_sld C hX hbl hbA dL_law_1116 (fun v1116 => ?_)
                                                            refine gj_aload_n C dL_law_1117 0 rfl ?_
                                                            refine gj_iload C dL_law_1118 4 rfl ?_
                                                            refine gj_iconst C dL_law_1120 ?_
                                                            refine gj_iadd C dL_law_1121 ?_
                                                            refine gl_sld C hX hbl hbA dL_law_1122 (fun v1122 => ?_)
                                                            refine gj_dia (J := 1131) (L := [(0, .ref b), (1, rv g a1), (2, rv g a2), (3, rv g a3), (4, .int (iI a4))]) (st := [.int (iI v1116), rv g a1]) (fun d1131 => ?_) (fun t hJ => ?_)
                                                            · skip
                                                              refine gx_callVI (t0 := 1) (As := [.int (iI v1116), .int (iI d1131)]) (rest := []) C E rfl dL_law_1131 (mx1_mark (cx_l X) g a1 v1116 d1131) (lw_V q1700 q1701 q1702 q125 q1703) hyx_X1_mark rfl hR (Nat.le_of_ble_eq_true rfl) (by decide) rfl rfl (Nat.zero_le _) (fun v1131 => ?_)
                                                              refine gx_aload_n C dL_law_1134 2 rfl ?_
                                                              refine gj_aload_n C dL_law_1135 0 rfl ?_
                                                              refine gj_iload C dL_law_1136 4 rfl ?_
                                                              refine gj_iconst C dL_law_1138 ?_
                                                              refine gj_iadd C dL_law_1139 ?_
                                                              refine gl_sld C hX hbl hbA dL_law_1140 (fun v1140 => ?_)
                                                              refine gj_aload_n C dL_law_1141 0 rfl ?_
                                                              refine gj_iload C dL_law_1142 4 rfl ?_
                                                              refine gj_iconst C dL_law_1144 ?_
                                                              refine gj_iadd C dL_law_1145 ?_
                                                              refine gl_sld C hX hbl hbA dL_law_1146 (fun v1146 => ?_)
                                                              refine gj_dia (J := 1155) (L := [(0, .ref b), (1, rv g a1), (2, rv g a2), (3, rv g a3), (4, .int (iI a4))]) (st := [.int (iI v1140), rv g a2, .int (iI v1131)]) (fun d1155 => ?_) (fun t hJ => ?_)
                                                              · skip
                                                                refine gx_callMI (As := [.int (iI v1140), .int (iI d1155)]) (rest := [.int (iI v1131)]) C E dL_law_1155 (fun am => met5_mark (cx_l X) (gm g am) v1140 d1155) (lw_V q2386 q2387 q2388 q134 q2389) hy5_mark.2 hy5_mark.1 hR (Nat.le_of_ble_eq_true rfl) (by decide) rfl rfl (Nat.le_of_ble_eq_true rfl) (fun v1155 => ?_)
                                                                refine gj_icmp_eq (tgt := 1188) C dL_law_1158 (by decide) rfl rfl (fun h1158 => gj_pos h1158 ?_) (fun h1158 => gj_neg h1158 ?_)
                                                                · exact gj_to [0, 1, 2, 3, 4] (J1188 a4) rfl
                                                                · refine gj_iconst C dL_law_1161 ?_
                                                                  exact gj_fail
                                                              · refine gj_if_eq (tgt := 1154) C dL_law_1147 (by decide) (fun h1147 => ?_) (fun h1147 => ?_)
                                                                · refine gj_iconst C dL_law_1154 ?_
                                                                  exact (by rw [if_pos h1147] at hJ; exact hJ)
                                                                · refine gj_iconst C dL_law_1150 ?_
                                                                  refine gj_goto (tgt := 1155) C dL_law_1151 (by decide) ?_
                                                                  exact (by rw [if_neg h1147] at hJ; exact hJ)
                                                            · refine gj_if_eq (tgt := 1130) C dL_law_1123 (by decide) (fun h1123 => ?_) (fun h1123 => ?_)
                                                              · refine gj_iconst C dL_law_1130 ?_
                                                                exact (by rw [if_pos h1123] at hJ; exact hJ)
                                                              · refine gj_iconst C dL_law_1126 ?_
                                                                refine gj_goto (tgt := 1131) C dL_law_1127 (by decide) ?_
                                                                exact (by rw [if_neg h1123] at hJ; exact hJ)
                                                          · refine gj_neg h40_26 ?_
                                                            by_cases h40_27 : w32 (zand v36 31) = 27
                                                            · refine gj_pos h40_27 ?_
                                                              refine gj_tin (tgt := 1163) C 27 h40_27 dL_law_40 (by decide) (by decide) rfl (by decide) ?_
                                                              refine gx_aload_n C dL_law_1163 1 rfl ?_
                                                              refine gj_aload_n C dL_law_1164 0 rfl ?_
                                                              refine gj_iload C dL_law_1165 4 rfl ?_
                                                              refine gj_iconst C dL_law_1167 ?_
                                                              refine gj_iadd C dL_law_1168 ?_
                                                              refine gl_sld C hX hbl hbA dL_law_1169 (fun v1169 => ?_)
                                                              refine gx_callVI (t0 := 1) (As := [.int (iI v1169)]) (rest := []) C E rfl dL_law_1170 (mx1_count (cx_l X) g a1 v1169) (lw_V q1731 q1732 q1733 q125 q1734) hyx_X1_count rfl hR (Nat.le_of_ble_eq_true rfl) (by decide) rfl rfl (Nat.zero_le _) (fun v1170 => ?_)
                                                              refine gx_aload_n C dL_law_1173 2 rfl ?_
                                                              refine gj_aload_n C dL_law_1174 0 rfl ?_
                                                              refine gj_iload C dL_law_1175 4 rfl ?_
                                                              refine gj_iconst C dL_law_1177 ?_
                                                              refine gj_iadd C dL_law_1178 ?_
                                                              refine gl_sld C hX hbl hbA dL_law_1179 (fun v1179 => ?_)
                                                              refine gx_callMI (As := [.int (iI v1179)]) (rest := [.int (iI v1170)]) C E dL_law_1180 (fun am => met5_count (cx_l X) (gm g am) v1179) (lw_V q2390 q2391 q2392 q134 q2393) hy5_count.2 hy5_count.1 hR (Nat.le_of_ble_eq_true rfl) (by decide) rfl rfl (Nat.le_of_ble_eq_true rfl) (fun v1180 => ?_)
                                                              refine gj_icmp_eq (tgt := 1188) C dL_law_1183 (by decide) rfl rfl (fun h1183 => gj_pos h1183 ?_) (fun h1183 => gj_neg h1183 ?_)
                                                              · exact gj_to [0, 1, 2, 3, 4] (J1188 a4) rfl
                                                              · refine gj_iconst C dL_law_1186 ?_
                                                                exact gj_fail
                                                            · refine gj_neg h40_27 ?_
                                                              refine gj_tout (tgt := 1188) C dL_law_40 (by omega) (by decide) ?_
                                                              exact gj_to [0, 1, 2, 3, 4] (J1188 a4) rfl
  unfold l_law
  refine gx_new (t0 := 1) C E dL_law_0 rfl q174 q175 q125 (fun v0 => ?_)
  refine gx_dup C dL_law_3 ?_
  refine gx_callIV (As := []) (rest := [rv g v0]) C E dL_law_4 (mx1_init (cx_l X) g v0) (lw_meth q178) q125 q176 q177 rfl hyx_X1_init hR (Nat.le_of_ble_eq_true rfl) (by decide) rfl rfl (by simp only [List.map_cons, List.map_nil, List.sum_cons, List.sum_nil, rv_cat, cat_int, cat_long]; decide) ?_
  refine gx_astore_n (L' := [(1, _), (0, _)]) C dL_law_7 (by decide) rfl ?_
  refine gx_new (t0 := 0) C E dL_law_8 rfl q1807 q1805 q134 (fun v8 => ?_)
  refine gx_dup C dL_law_11 ?_
  refine gx_callIV (As := []) (rest := [rv g v8]) C E dL_law_12 (mx5_init (cx_l X) g v8) (lw_meth q1810) q134 q1808 q1809 rfl hyx_X5_init hR (Nat.le_of_ble_eq_true rfl) (by decide) rfl rfl (by simp only [List.map_cons, List.map_nil, List.sum_cons, List.sum_nil, rv_cat, cat_int, cat_long]; decide) ?_
  refine gx_astore_n (L' := [(2, rv g v8), (1, rv g v0), (0, .ref b)]) C dL_law_15 (by decide) (by simp [List.filter, rv_cat, cat_int, cat_long, fin4_3]) ?_
  refine gj_iconst C dL_law_16 ?_
  refine gx_newa (t0 := 1) C E dL_law_17 (by decide) rfl q2001 (by decide) rfl (fun v17 => ?_)
  refine gx_astore_n (L' := [(3, rv g v17), (2, rv g v8), (1, rv g v0), (0, .ref b)]) C dL_law_19 (by decide) (by simp [List.filter, rv_cat, cat_int, cat_long, fin4_3]) ?_
  refine gj_iconst C dL_law_20 ?_
  refine gj_istore (L' := [(4, .int (iI 0)), (3, rv g v17), (2, rv g v8), (1, rv g v0), (0, .ref b)]) C dL_law_21 (by decide) (by simp [List.filter, rv_cat, cat_int, cat_long, fin4_3]) ?_
  exact gj_to [4, 3, 2, 1, 0] (J23 v0 v8 v17 0) rfl
