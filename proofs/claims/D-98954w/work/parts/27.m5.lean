/-! THE MODEL: its methods as pure programs, and that the machine runs so (pairsFrom, wishOf, pairs, tale, isAsTold, findFitting, how, who, findPurses, greatestAlike, ask, caresFor, rests): printed by gen.py -/
def m5_pairsFrom_s_j154 (self : Int → Int → MM Unit) (a1 a2 a3 : Int) (bk70 : (Int) → MM Unit) : MM Unit :=
  bk70 (a3 + 1)
def m5_pairsFrom_s_b70 (self : Int → Int → MM Unit) (a1 a2 : Int) (a3 : Int) (bk70 : (Int) → MM Unit) : MM Unit :=
  pbnd (m5_people) fun v72 =>
  pite (w32 a3 < w32 v72) (
    pbnd (mrd 21 6 a3) fun v83 =>
    pite (w32 v83 = (-1)) (
      pbnd (mrd 20 36 (((6 * a1)) + a3)) fun v98 =>
      pite (w32 v98 = 0) (
        m5_pairsFrom_s_j154 self a1 a2 a3 bk70) (
        pbnd (mrd 20 36 (((6 * a3)) + a1)) fun v112 =>
        pite (w32 v112 = 0) (
          m5_pairsFrom_s_j154 self a1 a2 a3 bk70) (
          pbnd (mwr 21 6 a1 (w32 a3)) fun _ =>
          pbnd (mwr 21 6 a3 (w32 a1)) fun _ =>
          pbnd (self (a1 + 1) (a2 + 1)) fun _ =>
          pbnd (mwr 21 6 a1 (-1)) fun _ =>
          pbnd (mwr 21 6 a3 (-1)) fun _ =>
          m5_pairsFrom_s_j154 self a1 a2 a3 bk70))) (
      m5_pairsFrom_s_j154 self a1 a2 a3 bk70)) (
    pbnd (self (a1 + 1) a2) fun _ =>
    pret ())
def m5_pairsFrom_s_l70 (self : Int → Int → MM Unit) (a1 a2 a3 : Int) : MM Unit :=
  ploop (fun (s : (Int)) bk70 => m5_pairsFrom_s_b70 self a1 a2 s bk70) (a3)
def m5_pairsFrom_s_b23 (self : Int → Int → MM Unit) (a1 : Int) (a3 : Int) (bk23 : (Int) → MM Unit) : MM Unit :=
  pite (w32 a3 < w32 a1) (
    pbnd (mrd 21 6 a3) fun v38 =>
    pbnd (mwr 22 6 a3 v38) fun _ =>
    bk23 (a3 + 1)) (
    pret ())
def m5_pairsFrom_s_l23 (self : Int → Int → MM Unit) (a1 a3 : Int) : MM Unit :=
  ploop (fun (s : (Int)) bk23 => m5_pairsFrom_s_b23 self a1 s bk23) (a3)
def m5_pairsFrom_s (self : Int → Int → MM Unit) (a1 a2 : Int) : MM Unit :=
  pbnd (m5_people) fun v2 =>
  pite (w32 a1 = w32 v2) (
    pbnd (mget 39) fun v10 =>
    pite (w32 v10 < w32 a2) (
      pbnd (mput 39 (w32 a2)) fun _ =>
      m5_pairsFrom_s_l23 self a1 0) (
      pret ())) (
    pbnd (mrd 21 6 a1) fun v52 =>
    pite (w32 v52 = (-1)) (
      plet (a1 + 1) fun x69 =>
      m5_pairsFrom_s_l70 self a1 a2 x69) (
      pbnd (self (a1 + 1) a2) fun _ =>
      pret ()))
set_option maxHeartbeats 4000000 in
set_option maxRecDepth 100000 in
theorem met5_pairsFrom_s (l : Launch) (g : MG) {kS : Nat} (hkS : 10 ≤ kS) {self : Int → Int → MM Unit} (hS : ∀ a1 a2 : Int, MMet l g yX5_pairsFrom cX5_pairsFrom 4 (Option.none : Option Jvm.ClassFile.FieldType) (kS) [.ref g.2.2, .int (iI a1), .int (iI a2)] (self a1 a2) rvV) (a1 a2 : Int) : MMet l g yX5_pairsFrom cX5_pairsFrom 4 (Option.none : Option Jvm.ClassFile.FieldType) (kS + 1) [.ref (g.2.2), .int (iI a1), .int (iI a2)] (m5_pairsFrom_s self a1 a2) rvV := by
  refine mj_start (by decide +kernel) rfl (Nat.le_of_ble_eq_true rfl) (fun X Q hl C K hQ hR hr => ?_)
  subst hl
  show GJ X 4 (mWo g (cx_s X).heap) Q (m5_pairsFrom_s self a1 a2) 0 [(0, .ref (g.2.2)), (1, .int (iI a1)), (2, .int (iI a2))] []
  have J70 : ∀ (a1 a2 a3 : Int), GJ X 4 (mWo g (cx_s X).heap) Q (m5_pairsFrom_s_l70 self a1 a2 a3) 70 [(0, .ref (g.2.2)), (1, .int (iI a1)), (2, .int (iI a2)), (3, .int (iI a3))] [] := by
    intro a1 a2 a3
    unfold m5_pairsFrom_s_l70
    refine gj_loop (fun (s : (Int)) => [(0, .ref (g.2.2)), (1, .int (iI a1)), (2, .int (iI a2)), (3, .int (iI s))]) (a3) (fun bk70 hb70 s => ?_)
    obtain ⟨a3, rfl⟩ : ∃ z, z = s := ⟨s, rfl⟩
    show GJ X 4 (mWo g (cx_s X).heap) Q (m5_pairsFrom_s_b70 self a1 a2 a3 bk70) 70 [(0, .ref (g.2.2)), (1, .int (iI a1)), (2, .int (iI a2)), (3, .int (iI a3))] []
    have J154 : ∀ (a3 : Int), GJ X 4 (mWo g (cx_s X).heap) Q (m5_pairsFrom_s_j154 self a1 a2 a3 bk70) 154 [(0, .ref (g.2.2)), (1, .int (iI a1)), (2, .int (iI a2)), (3, .int (iI a3))] [] := by
      intro a3
      unfold m5_pairsFrom_s_j154
      refine gj_iinc (L' := [(3, _), (0, _), (1, _), (2, _)]) C dX5_pairsFrom_154 3 rfl (by decide) rfl ?_
      refine gj_goto (tgt := 70) C dX5_pairsFrom_157 (by decide) ?_
      exact gj_to [1, 2, 3, 0] (hb70 (a3 + 1)) rfl
    unfold m5_pairsFrom_s_b70
    refine gj_iload_n C dX5_pairsFrom_70 3 rfl ?_
    refine gj_aload_n C dX5_pairsFrom_71 0 rfl ?_
    refine mj_callVI (As := []) (rest := [.int (iI a3)]) C K dX5_pairsFrom_72 (met5_people (cx_l X) g) (lw_V q1851 q1853 qs55 q134 q1854) hy5_people hR (by omega) (by decide) rfl rfl (Nat.le_of_ble_eq_true rfl) (fun v72 => ?_)
    refine gj_icmp_ge (tgt := 160) C dX5_pairsFrom_75 (by decide) rfl rfl (fun h75 => gj_neg h75 ?_) (fun h75 => gj_pos h75 ?_)
    · refine gj_aload_n C dX5_pairsFrom_160 0 rfl ?_
      refine gj_iload_n C dX5_pairsFrom_161 1 rfl ?_
      refine gj_iconst C dX5_pairsFrom_162 ?_
      refine gj_iadd C dX5_pairsFrom_163 ?_
      refine gj_iload_n C dX5_pairsFrom_164 2 rfl ?_
      refine mj_callVV (As := [.int (iI ((a1 + 1))), .int (iI a2)]) (rest := []) C K dX5_pairsFrom_165 (hS (a1 + 1) a2) (lw_V q2331 q2333 qs116 q134 q2334) hy5_pairsFrom hR (by omega) (by decide) rfl rfl (Nat.zero_le _) ?_
      exact mj_vret C hQ hr dX5_pairsFrom_168
    · refine gj_aload_n C dX5_pairsFrom_78 0 rfl ?_
      refine mj_getR (kf := 37) (j := 21) C K dX5_pairsFrom_79 (by decide) (by decide) rfl (by decide) q1908 rfl ?_
      refine gj_iload_n C dX5_pairsFrom_82 3 rfl ?_
      refine mj_iald (j := 21) C K dX5_pairsFrom_83 (by decide) rfl (fun v83 => ?_)
      refine gj_iconst C dX5_pairsFrom_84 ?_
      refine gj_icmp_ne (tgt := 154) (b' := (-1)) C dX5_pairsFrom_85 (by decide) rfl (by decide) (fun h85 => gj_neg h85 ?_) (fun h85 => gj_pos h85 ?_)
      · exact gj_to [0, 1, 2, 3] (J154 a3) rfl
      · refine gj_aload_n C dX5_pairsFrom_88 0 rfl ?_
        refine mj_getR (kf := 36) (j := 20) C K dX5_pairsFrom_89 (by decide) (by decide) rfl (by decide) q1907 rfl ?_
        refine gj_bipush C dX5_pairsFrom_92 rfl ?_
        refine gj_iload_n C dX5_pairsFrom_94 1 rfl ?_
        refine gj_imul C dX5_pairsFrom_95 ?_
        refine gj_iload_n C dX5_pairsFrom_96 3 rfl ?_
        refine gj_iadd C dX5_pairsFrom_97 ?_
        refine mj_zald (j := 20) C K dX5_pairsFrom_98 (by decide) rfl (fun v98 => ?_)
        refine gj_if_eq (tgt := 154) C dX5_pairsFrom_99 (by decide) (fun h99 => gj_pos h99 ?_) (fun h99 => gj_neg h99 ?_)
        · exact gj_to [0, 1, 2, 3] (J154 a3) rfl
        · refine gj_aload_n C dX5_pairsFrom_102 0 rfl ?_
          refine mj_getR (kf := 36) (j := 20) C K dX5_pairsFrom_103 (by decide) (by decide) rfl (by decide) q1907 rfl ?_
          refine gj_bipush C dX5_pairsFrom_106 rfl ?_
          refine gj_iload_n C dX5_pairsFrom_108 3 rfl ?_
          refine gj_imul C dX5_pairsFrom_109 ?_
          refine gj_iload_n C dX5_pairsFrom_110 1 rfl ?_
          refine gj_iadd C dX5_pairsFrom_111 ?_
          refine mj_zald (j := 20) C K dX5_pairsFrom_112 (by decide) rfl (fun v112 => ?_)
          refine gj_if_eq (tgt := 154) C dX5_pairsFrom_113 (by decide) (fun h113 => gj_pos h113 ?_) (fun h113 => gj_neg h113 ?_)
          · exact gj_to [0, 1, 2, 3] (J154 a3) rfl
          · refine gj_aload_n C dX5_pairsFrom_116 0 rfl ?_
            refine mj_getR (kf := 37) (j := 21) C K dX5_pairsFrom_117 (by decide) (by decide) rfl (by decide) q1908 rfl ?_
            refine gj_iload_n C dX5_pairsFrom_120 1 rfl ?_
            refine gj_iload_n C dX5_pairsFrom_121 3 rfl ?_
            refine gj_nrmI ?_
            refine mj_iast (j := 21) C K dX5_pairsFrom_122 (by decide) (by decide) rfl ?_
            refine gj_aload_n C dX5_pairsFrom_123 0 rfl ?_
            refine mj_getR (kf := 37) (j := 21) C K dX5_pairsFrom_124 (by decide) (by decide) rfl (by decide) q1908 rfl ?_
            refine gj_iload_n C dX5_pairsFrom_127 3 rfl ?_
            refine gj_iload_n C dX5_pairsFrom_128 1 rfl ?_
            refine gj_nrmI ?_
            refine mj_iast (j := 21) C K dX5_pairsFrom_129 (by decide) (by decide) rfl ?_
            refine gj_aload_n C dX5_pairsFrom_130 0 rfl ?_
            refine gj_iload_n C dX5_pairsFrom_131 1 rfl ?_
            refine gj_iconst C dX5_pairsFrom_132 ?_
            refine gj_iadd C dX5_pairsFrom_133 ?_
            refine gj_iload_n C dX5_pairsFrom_134 2 rfl ?_
            refine gj_iconst C dX5_pairsFrom_135 ?_
            refine gj_iadd C dX5_pairsFrom_136 ?_
            refine mj_callVV (As := [.int (iI ((a1 + 1))), .int (iI ((a2 + 1)))]) (rest := []) C K dX5_pairsFrom_137 (hS (a1 + 1) (a2 + 1)) (lw_V q2331 q2333 qs116 q134 q2334) hy5_pairsFrom hR (by omega) (by decide) rfl rfl (Nat.zero_le _) ?_
            refine gj_aload_n C dX5_pairsFrom_140 0 rfl ?_
            refine mj_getR (kf := 37) (j := 21) C K dX5_pairsFrom_141 (by decide) (by decide) rfl (by decide) q1908 rfl ?_
            refine gj_iload_n C dX5_pairsFrom_144 1 rfl ?_
            refine gj_iconst C dX5_pairsFrom_145 ?_
            refine mj_iast (j := 21) C K dX5_pairsFrom_146 (by decide) (by decide) rfl ?_
            refine gj_aload_n C dX5_pairsFrom_147 0 rfl ?_
            refine mj_getR (kf := 37) (j := 21) C K dX5_pairsFrom_148 (by decide) (by decide) rfl (by decide) q1908 rfl ?_
            refine gj_iload_n C dX5_pairsFrom_151 3 rfl ?_
            refine gj_iconst C dX5_pairsFrom_152 ?_
            refine mj_iast (j := 21) C K dX5_pairsFrom_153 (by decide) (by decide) rfl ?_
            exact gj_to [0, 1, 2, 3] (J154 a3) rfl
  have J23 : ∀ (a1 a3 : Int), GJ X 4 (mWo g (cx_s X).heap) Q (m5_pairsFrom_s_l23 self a1 a3) 23 [(0, .ref (g.2.2)), (1, .int (iI a1)), (3, .int (iI a3))] [] := by
    intro a1 a3
    unfold m5_pairsFrom_s_l23
    refine gj_loop (fun (s : (Int)) => [(0, .ref (g.2.2)), (1, .int (iI a1)), (3, .int (iI s))]) (a3) (fun bk23 hb23 s => ?_)
    obtain ⟨a3, rfl⟩ : ∃ z, z = s := ⟨s, rfl⟩
    show GJ X 4 (mWo g (cx_s X).heap) Q (m5_pairsFrom_s_b23 self a1 a3 bk23) 23 [(0, .ref (g.2.2)), (1, .int (iI a1)), (3, .int (iI a3))] []
    unfold m5_pairsFrom_s_b23
    refine gj_iload_n C dX5_pairsFrom_23 2 rfl ?_
    refine gj_iload_n C dX5_pairsFrom_24 1 rfl ?_
    refine gj_icmp_ge (tgt := 46) C dX5_pairsFrom_25 (by decide) rfl rfl (fun h25 => gj_neg h25 ?_) (fun h25 => gj_pos h25 ?_)
    · exact mj_vret C hQ hr dX5_pairsFrom_46
    · refine gj_aload_n C dX5_pairsFrom_28 0 rfl ?_
      refine mj_getR (kf := 38) (j := 22) C K dX5_pairsFrom_29 (by decide) (by decide) rfl (by decide) q1909 rfl ?_
      refine gj_iload_n C dX5_pairsFrom_32 2 rfl ?_
      refine gj_aload_n C dX5_pairsFrom_33 0 rfl ?_
      refine mj_getR (kf := 37) (j := 21) C K dX5_pairsFrom_34 (by decide) (by decide) rfl (by decide) q1908 rfl ?_
      refine gj_iload_n C dX5_pairsFrom_37 2 rfl ?_
      refine mj_iald (j := 21) C K dX5_pairsFrom_38 (by decide) rfl (fun v38 => ?_)
      refine mj_iast (j := 22) C K dX5_pairsFrom_39 (by decide) (by decide) rfl ?_
      refine gj_iinc (L' := [(3, _), (0, _), (1, _)]) C dX5_pairsFrom_40 2 rfl (by decide) rfl ?_
      refine gj_goto (tgt := 23) C dX5_pairsFrom_43 (by decide) ?_
      exact gj_to [1, 2, 0] (hb23 (a3 + 1)) rfl
  unfold m5_pairsFrom_s
  refine gj_iload_n C dX5_pairsFrom_0 1 rfl ?_
  refine gj_aload_n C dX5_pairsFrom_1 0 rfl ?_
  refine mj_callVI (As := []) (rest := [.int (iI a1)]) C K dX5_pairsFrom_2 (met5_people (cx_l X) g) (lw_V q1851 q1853 qs55 q134 q1854) hy5_people hR (by omega) (by decide) rfl rfl (Nat.le_of_ble_eq_true rfl) (fun v2 => ?_)
  refine gj_icmp_ne (tgt := 47) C dX5_pairsFrom_5 (by decide) rfl rfl (fun h5 => gj_neg h5 ?_) (fun h5 => gj_pos h5 ?_)
  · refine gj_aload_n C dX5_pairsFrom_47 0 rfl ?_
    refine mj_getR (kf := 37) (j := 21) C K dX5_pairsFrom_48 (by decide) (by decide) rfl (by decide) q1908 rfl ?_
    refine gj_iload_n C dX5_pairsFrom_51 1 rfl ?_
    refine mj_iald (j := 21) C K dX5_pairsFrom_52 (by decide) rfl (fun v52 => ?_)
    refine gj_iconst C dX5_pairsFrom_53 ?_
    refine gj_icmp_eq (tgt := 66) (b' := (-1)) C dX5_pairsFrom_54 (by decide) rfl (by decide) (fun h54 => gj_pos h54 ?_) (fun h54 => gj_neg h54 ?_)
    · refine gj_iload_n C dX5_pairsFrom_66 1 rfl ?_
      refine gj_iconst C dX5_pairsFrom_67 ?_
      refine gj_iadd C dX5_pairsFrom_68 ?_
      refine gj_let (fun x69 => ?_)
      refine gj_istore_n (L' := [(3, _), (0, _), (1, _), (2, _)]) C dX5_pairsFrom_69 (by decide) rfl ?_
      exact gj_to [1, 2, 3, 0] (J70 a1 a2 x69) rfl
    · refine gj_aload_n C dX5_pairsFrom_57 0 rfl ?_
      refine gj_iload_n C dX5_pairsFrom_58 1 rfl ?_
      refine gj_iconst C dX5_pairsFrom_59 ?_
      refine gj_iadd C dX5_pairsFrom_60 ?_
      refine gj_iload_n C dX5_pairsFrom_61 2 rfl ?_
      refine mj_callVV (As := [.int (iI ((a1 + 1))), .int (iI a2)]) (rest := []) C K dX5_pairsFrom_62 (hS (a1 + 1) a2) (lw_V q2331 q2333 qs116 q134 q2334) hy5_pairsFrom hR (by omega) (by decide) rfl rfl (Nat.zero_le _) ?_
      exact mj_vret C hQ hr dX5_pairsFrom_65
  · refine gj_iload_n C dX5_pairsFrom_8 2 rfl ?_
    refine gj_aload_n C dX5_pairsFrom_9 0 rfl ?_
    refine mj_getI (kf := 39) C K dX5_pairsFrom_10 (by decide) (by decide) rfl q1910 rfl (fun v10 => ?_)
    refine gj_icmp_le (tgt := 46) C dX5_pairsFrom_13 (by decide) rfl rfl (fun h13 => gj_neg h13 ?_) (fun h13 => gj_pos h13 ?_)
    · exact mj_vret C hQ hr dX5_pairsFrom_46
    · refine gj_aload_n C dX5_pairsFrom_16 0 rfl ?_
      refine gj_iload_n C dX5_pairsFrom_17 2 rfl ?_
      refine gj_nrmI ?_
      refine mj_putI (kf := 39) C K dX5_pairsFrom_18 (by decide) (by decide) rfl q1910 rfl rfl (by decide +kernel) ?_
      refine gj_iconst C dX5_pairsFrom_21 ?_
      refine gj_istore_n (L' := [(3, _), (0, _), (1, _), (2, _)]) C dX5_pairsFrom_22 (by decide) rfl ?_
      exact gj_to [1, 2, 0] (J23 a1 0) rfl
def m5_pairsFrom : Nat → Int → Int → MM Unit
  | 0, _, _ => pfail
  | n + 1, a1, a2 => m5_pairsFrom_s (m5_pairsFrom n) a1 a2
theorem met5_pairsFrom (l : Launch) (g : MG) : ∀ (n : Nat) (a1 a2 : Int), MMet l g yX5_pairsFrom cX5_pairsFrom 4 (Option.none : Option Jvm.ClassFile.FieldType) (10 + n) [.ref g.2.2, .int (iI a1), .int (iI a2)] (m5_pairsFrom n a1 a2) rvV := by
  intro n
  induction n with
  | zero => intro a1 a2 Q σ h; exact h.elim
  | succ n ih => intro a1 a2; exact met5_pairsFrom_s l g (by omega) ih a1 a2
def m5_wishOf (a1 a2 : Int) : MM Int :=
  pbnd (m5_laysFacts 0 a2 a1 0) fun _ =>
  pbnd (mrd 6 160 6) fun v14 =>
  pite (w32 v14 < 0) (
    pbnd (mrd 12 5 0) fun v23 =>
    pbnd (mrd 12 5 1) fun v29 =>
    pbnd (mrd 12 5 2) fun v36 =>
    pret (w32 (((v23 - v29)) + ((v36 * 5))))) (
    pbnd (mrd 6 160 6) fun v50 =>
    pbnd (m5_worthAt v50) fun v51 =>
    pret v51)
set_option maxHeartbeats 4000000 in
set_option maxRecDepth 100000 in
theorem met5_wishOf (l : Launch) (g : MG) (a1 a2 : Int) : MMet l g yX5_wishOf cX5_wishOf 3 (Option.some Jvm.ClassFile.FieldType.int) (2) [.ref (g.2.2), .int (iI a1), .int (iI a2)] (m5_wishOf a1 a2) rvI := by
  refine mj_start (by decide +kernel) rfl (Nat.le_of_ble_eq_true rfl) (fun X Q hl C K hQ hR hr => ?_)
  subst hl
  show GJ X 3 (mWo g (cx_s X).heap) Q (m5_wishOf a1 a2) 0 [(0, .ref (g.2.2)), (1, .int (iI a1)), (2, .int (iI a2))] []
  unfold m5_wishOf
  refine gj_aload_n C dX5_wishOf_0 0 rfl ?_
  refine gj_iconst C dX5_wishOf_1 ?_
  refine gj_iload_n C dX5_wishOf_2 2 rfl ?_
  refine gj_iload_n C dX5_wishOf_3 1 rfl ?_
  refine gj_iconst C dX5_wishOf_4 ?_
  refine mj_callVV (As := [.int (iI 0), .int (iI a2), .int (iI a1), .int (iI 0)]) (rest := []) C K dX5_wishOf_5 (met5_laysFacts (cx_l X) g 0 a2 a1 0) (lw_V q2229 q2231 qs102 q134 q2232) hy5_laysFacts hR (Nat.le_of_ble_eq_true rfl) (by decide) rfl rfl (Nat.zero_le _) ?_
  refine gj_aload_n C dX5_wishOf_8 0 rfl ?_
  refine mj_getR (kf := 10) (j := 6) C K dX5_wishOf_9 (by decide) (by decide) rfl (by decide) q1881 rfl ?_
  refine gj_bipush C dX5_wishOf_12 rfl ?_
  refine mj_iald (j := 6) C K dX5_wishOf_14 (by decide) rfl (fun v14 => ?_)
  refine gj_if_ge (tgt := 43) C dX5_wishOf_15 (by decide) (fun h15 => gj_neg h15 ?_) (fun h15 => gj_pos h15 ?_)
  · refine gj_aload_n C dX5_wishOf_43 0 rfl ?_
    refine gj_aload_n C dX5_wishOf_44 0 rfl ?_
    refine mj_getR (kf := 10) (j := 6) C K dX5_wishOf_45 (by decide) (by decide) rfl (by decide) q1881 rfl ?_
    refine gj_bipush C dX5_wishOf_48 rfl ?_
    refine mj_iald (j := 6) C K dX5_wishOf_50 (by decide) rfl (fun v50 => ?_)
    refine mj_callVI (As := [.int (iI v50)]) (rest := []) C K dX5_wishOf_51 (met5_worthAt (cx_l X) g v50) (lw_V q2237 q2239 qs104 q134 q2240) hy5_worthAt hR (Nat.le_of_ble_eq_true rfl) (by decide) rfl rfl (Nat.zero_le _) (fun v51 => ?_)
    exact mj_iret C hQ hr dX5_wishOf_54
  · refine gj_aload_n C dX5_wishOf_18 0 rfl ?_
    refine mj_getR (kf := 21) (j := 12) C K dX5_wishOf_19 (by decide) (by decide) rfl (by decide) q1892 rfl ?_
    refine gj_iconst C dX5_wishOf_22 ?_
    refine mj_iald (j := 12) C K dX5_wishOf_23 (by decide) rfl (fun v23 => ?_)
    refine gj_aload_n C dX5_wishOf_24 0 rfl ?_
    refine mj_getR (kf := 21) (j := 12) C K dX5_wishOf_25 (by decide) (by decide) rfl (by decide) q1892 rfl ?_
    refine gj_iconst C dX5_wishOf_28 ?_
    refine mj_iald (j := 12) C K dX5_wishOf_29 (by decide) rfl (fun v29 => ?_)
    refine gj_isub C dX5_wishOf_30 ?_
    refine gj_aload_n C dX5_wishOf_31 0 rfl ?_
    refine mj_getR (kf := 21) (j := 12) C K dX5_wishOf_32 (by decide) (by decide) rfl (by decide) q1892 rfl ?_
    refine gj_iconst C dX5_wishOf_35 ?_
    refine mj_iald (j := 12) C K dX5_wishOf_36 (by decide) rfl (fun v36 => ?_)
    refine gj_iconst C dX5_wishOf_37 ?_
    refine gj_imul C dX5_wishOf_38 ?_
    refine gj_iadd C dX5_wishOf_39 ?_
    refine gj_goto (tgt := 54) C dX5_wishOf_40 (by decide) ?_
    refine gj_nrmI ?_
    exact mj_iret C hQ hr dX5_wishOf_54
def m5_pairs_b40 (a1 a2 : Int) (bk23 : (Int) → MM Int) (a3 : Int) (bk40 : (Int) → MM Int) : MM Int :=
  pbnd (m5_people) fun v42 =>
  pite (w32 a3 < w32 v42) (
    pbnd (m5_wishOf a2 a3) fun v61 =>
    pbnd (m5_wishOf a2 a2) fun v67 =>
    plet (if w32 v67 < w32 v61 then 1 else 0) fun d78 =>
    pbnd (mwrz 20 36 (((6 * a2)) + a3) d78) fun _ =>
    bk40 (a3 + 1)) (
    bk23 (a2 + 1))
def m5_pairs_l40 (a1 a2 a3 : Int) (bk23 : (Int) → MM Int) : MM Int :=
  ploop (fun (s : (Int)) bk40 => m5_pairs_b40 a1 a2 bk23 s bk40) (a3)
def m5_pairs_b23 (a1 : Int) (a2 : Int) (bk23 : (Int) → MM Int) : MM Int :=
  pbnd (m5_people) fun v25 =>
  pite (w32 a2 < w32 v25) (
    pbnd (mwr 21 6 a2 (-1)) fun _ =>
    m5_pairs_l40 a1 a2 0 bk23) (
    pbnd (mput 39 (-1)) fun _ =>
    pbnd (m5_pairsFrom 10 0 0) fun _ =>
    pite (w32 a1 < 0) (
      pbnd (mget 39) fun v107 =>
      pret v107) (
      pbnd (mrd 22 6 a1) fun v118 =>
      pret v118))
def m5_pairs_l23 (a1 a2 : Int) : MM Int :=
  ploop (fun (s : (Int)) bk23 => m5_pairs_b23 a1 s bk23) (a2)
def m5_pairs_j21 (a1 : Int) : MM Int :=
  m5_pairs_l23 a1 0
def m5_pairs (a1 : Int) : MM Int :=
  pbnd (mput 0 0) fun _ =>
  pite (w32 a1 = (-1)) (
    m5_pairs_j21 a1) (
    pbnd (m5_isPerson a1) fun v12 =>
    pite (w32 v12 = 0) (
      pret (-2)) (
      m5_pairs_j21 a1))
set_option maxHeartbeats 4000000 in
set_option maxRecDepth 100000 in
theorem met5_pairs (l : Launch) (g : MG) (a1 : Int) : MMet l g yX5_pairs cX5_pairs 4 (Option.some Jvm.ClassFile.FieldType.int) (21) [.ref (g.2.2), .int (iI a1)] (m5_pairs a1) rvI := by
  refine mj_start (by decide +kernel) rfl (Nat.le_of_ble_eq_true rfl) (fun X Q hl C K hQ hR hr => ?_)
  subst hl
  show GJ X 4 (mWo g (cx_s X).heap) Q (m5_pairs a1) 0 [(0, .ref (g.2.2)), (1, .int (iI a1))] []
  have J23 : ∀ (a1 a2 : Int), GJ X 4 (mWo g (cx_s X).heap) Q (m5_pairs_l23 a1 a2) 23 [(0, .ref (g.2.2)), (1, .int (iI a1)), (2, .int (iI a2))] [] := by
    intro a1 a2
    unfold m5_pairs_l23
    refine gj_loop (fun (s : (Int)) => [(0, .ref (g.2.2)), (1, .int (iI a1)), (2, .int (iI s))]) (a2) (fun bk23 hb23 s => ?_)
    obtain ⟨a2, rfl⟩ : ∃ z, z = s := ⟨s, rfl⟩
    show GJ X 4 (mWo g (cx_s X).heap) Q (m5_pairs_b23 a1 a2 bk23) 23 [(0, .ref (g.2.2)), (1, .int (iI a1)), (2, .int (iI a2))] []
    have J40 : ∀ (a2 a3 : Int), GJ X 4 (mWo g (cx_s X).heap) Q (m5_pairs_l40 a1 a2 a3 bk23) 40 [(0, .ref (g.2.2)), (1, .int (iI a1)), (2, .int (iI a2)), (3, .int (iI a3))] [] := by
      intro a2 a3
      unfold m5_pairs_l40
      refine gj_loop (fun (s : (Int)) => [(0, .ref (g.2.2)), (1, .int (iI a1)), (2, .int (iI a2)), (3, .int (iI s))]) (a3) (fun bk40 hb40 s => ?_)
      obtain ⟨a3, rfl⟩ : ∃ z, z = s := ⟨s, rfl⟩
      show GJ X 4 (mWo g (cx_s X).heap) Q (m5_pairs_b40 a1 a2 bk23 a3 bk40) 40 [(0, .ref (g.2.2)), (1, .int (iI a1)), (2, .int (iI a2)), (3, .int (iI a3))] []
      unfold m5_pairs_b40
      refine gj_iload_n C dX5_pairs_40 3 rfl ?_
      refine gj_aload_n C dX5_pairs_41 0 rfl ?_
      refine mj_callVI (As := []) (rest := [.int (iI a3)]) C K dX5_pairs_42 (met5_people (cx_l X) g) (lw_V q1851 q1853 qs55 q134 q1854) hy5_people hR (Nat.le_of_ble_eq_true rfl) (by decide) rfl rfl (Nat.le_of_ble_eq_true rfl) (fun v42 => ?_)
      refine gj_icmp_ge (tgt := 85) C dX5_pairs_45 (by decide) rfl rfl (fun h45 => gj_neg h45 ?_) (fun h45 => gj_pos h45 ?_)
      · refine gj_iinc (L' := [(2, _), (0, _), (1, _), (3, _)]) C dX5_pairs_85 2 rfl (by decide) rfl ?_
        refine gj_goto (tgt := 23) C dX5_pairs_88 (by decide) ?_
        exact gj_to [1, 2, 0] (hb23 (a2 + 1)) rfl
      · refine gj_aload_n C dX5_pairs_48 0 rfl ?_
        refine mj_getR (kf := 36) (j := 20) C K dX5_pairs_49 (by decide) (by decide) rfl (by decide) q1907 rfl ?_
        refine gj_bipush C dX5_pairs_52 rfl ?_
        refine gj_iload_n C dX5_pairs_54 2 rfl ?_
        refine gj_imul C dX5_pairs_55 ?_
        refine gj_iload_n C dX5_pairs_56 3 rfl ?_
        refine gj_iadd C dX5_pairs_57 ?_
        refine gj_aload_n C dX5_pairs_58 0 rfl ?_
        refine gj_iload_n C dX5_pairs_59 2 rfl ?_
        refine gj_iload_n C dX5_pairs_60 3 rfl ?_
        refine mj_callVI (As := [.int (iI a2), .int (iI a3)]) (rest := [.int (iI ((((6 * a2)) + a3))), .ref (g.2.2 + 20)]) C K dX5_pairs_61 (met5_wishOf (cx_l X) g a2 a3) (lw_V q2327 q2329 qs115 q134 q2330) hy5_wishOf hR (Nat.le_of_ble_eq_true rfl) (by decide) rfl rfl (Nat.le_of_ble_eq_true rfl) (fun v61 => ?_)
        refine gj_aload_n C dX5_pairs_64 0 rfl ?_
        refine gj_iload_n C dX5_pairs_65 2 rfl ?_
        refine gj_iload_n C dX5_pairs_66 2 rfl ?_
        refine mj_callVI (As := [.int (iI a2), .int (iI a2)]) (rest := [.int (iI v61), .int (iI ((((6 * a2)) + a3))), .ref (g.2.2 + 20)]) C K dX5_pairs_67 (met5_wishOf (cx_l X) g a2 a2) (lw_V q2327 q2329 qs115 q134 q2330) hy5_wishOf hR (Nat.le_of_ble_eq_true rfl) (by decide) rfl rfl (Nat.le_of_ble_eq_true rfl) (fun v67 => ?_)
        refine gj_dia (J := 78) (L := [(0, .ref (g.2.2)), (1, .int (iI a1)), (2, .int (iI a2)), (3, .int (iI a3))]) (st := [.int (iI ((((6 * a2)) + a3))), .ref (g.2.2 + 20)]) (fun d78 => ?_) (fun t hJ => ?_)
        · skip
          refine mj_zast (j := 20) C K dX5_pairs_78 (by decide) (by decide) rfl ?_
          refine gj_iinc (L' := [(3, _), (0, _), (1, _), (2, _)]) C dX5_pairs_79 3 rfl (by decide) rfl ?_
          refine gj_goto (tgt := 40) C dX5_pairs_82 (by decide) ?_
          exact gj_to [1, 2, 3, 0] (hb40 (a3 + 1)) rfl
        · refine gj_icmp_le (tgt := 77) C dX5_pairs_70 (by decide) rfl rfl (fun h70 => ?_) (fun h70 => ?_)
          · refine gj_iconst C dX5_pairs_77 ?_
            exact (by rw [if_neg h70] at hJ; exact hJ)
          · refine gj_iconst C dX5_pairs_73 ?_
            refine gj_goto (tgt := 78) C dX5_pairs_74 (by decide) ?_
            exact (by rw [if_pos h70] at hJ; exact hJ)
    unfold m5_pairs_b23
    refine gj_iload_n C dX5_pairs_23 2 rfl ?_
    refine gj_aload_n C dX5_pairs_24 0 rfl ?_
    refine mj_callVI (As := []) (rest := [.int (iI a2)]) C K dX5_pairs_25 (met5_people (cx_l X) g) (lw_V q1851 q1853 qs55 q134 q1854) hy5_people hR (Nat.le_of_ble_eq_true rfl) (by decide) rfl rfl (Nat.le_of_ble_eq_true rfl) (fun v25 => ?_)
    refine gj_icmp_ge (tgt := 91) C dX5_pairs_28 (by decide) rfl rfl (fun h28 => gj_neg h28 ?_) (fun h28 => gj_pos h28 ?_)
    · refine gj_aload_n C dX5_pairs_91 0 rfl ?_
      refine gj_iconst C dX5_pairs_92 ?_
      refine mj_putI (kf := 39) C K dX5_pairs_93 (by decide) (by decide) rfl q1910 rfl rfl (by decide +kernel) ?_
      refine gj_aload_n C dX5_pairs_96 0 rfl ?_
      refine gj_iconst C dX5_pairs_97 ?_
      refine gj_iconst C dX5_pairs_98 ?_
      refine mj_callVV (As := [.int (iI 0), .int (iI 0)]) (rest := []) C K dX5_pairs_99 (met5_pairsFrom (cx_l X) g 10 0 0) (lw_V q2331 q2333 qs116 q134 q2334) hy5_pairsFrom hR (Nat.le_of_ble_eq_true rfl) (by decide) rfl rfl (Nat.zero_le _) ?_
      refine gj_iload_n C dX5_pairs_102 1 rfl ?_
      refine gj_if_ge (tgt := 113) C dX5_pairs_103 (by decide) (fun h103 => gj_neg h103 ?_) (fun h103 => gj_pos h103 ?_)
      · refine gj_aload_n C dX5_pairs_113 0 rfl ?_
        refine mj_getR (kf := 38) (j := 22) C K dX5_pairs_114 (by decide) (by decide) rfl (by decide) q1909 rfl ?_
        refine gj_iload_n C dX5_pairs_117 1 rfl ?_
        refine mj_iald (j := 22) C K dX5_pairs_118 (by decide) rfl (fun v118 => ?_)
        exact mj_iret C hQ hr dX5_pairs_119
      · refine gj_aload_n C dX5_pairs_106 0 rfl ?_
        refine mj_getI (kf := 39) C K dX5_pairs_107 (by decide) (by decide) rfl q1910 rfl (fun v107 => ?_)
        refine gj_goto (tgt := 119) C dX5_pairs_110 (by decide) ?_
        exact mj_iret C hQ hr dX5_pairs_119
    · refine gj_aload_n C dX5_pairs_31 0 rfl ?_
      refine mj_getR (kf := 37) (j := 21) C K dX5_pairs_32 (by decide) (by decide) rfl (by decide) q1908 rfl ?_
      refine gj_iload_n C dX5_pairs_35 2 rfl ?_
      refine gj_iconst C dX5_pairs_36 ?_
      refine mj_iast (j := 21) C K dX5_pairs_37 (by decide) (by decide) rfl ?_
      refine gj_iconst C dX5_pairs_38 ?_
      refine gj_istore_n (L' := [(3, _), (0, _), (1, _), (2, _)]) C dX5_pairs_39 (by decide) rfl ?_
      exact gj_to [1, 2, 3, 0] (J40 a2 0) rfl
  have J21 : ∀ (a1 : Int), GJ X 4 (mWo g (cx_s X).heap) Q (m5_pairs_j21 a1) 21 [(0, .ref (g.2.2)), (1, .int (iI a1))] [] := by
    intro a1
    unfold m5_pairs_j21
    refine gj_iconst C dX5_pairs_21 ?_
    refine gj_istore_n (L' := [(2, _), (0, _), (1, _)]) C dX5_pairs_22 (by decide) rfl ?_
    exact gj_to [1, 2, 0] (J23 a1 0) rfl
  unfold m5_pairs
  refine gj_aload_n C dX5_pairs_0 0 rfl ?_
  refine gj_iconst C dX5_pairs_1 ?_
  refine mj_putI (kf := 0) C K dX5_pairs_2 (by decide) (by decide) rfl q1871 rfl rfl (by decide +kernel) ?_
  refine gj_iload_n C dX5_pairs_5 1 rfl ?_
  refine gj_iconst C dX5_pairs_6 ?_
  refine gj_icmp_eq (tgt := 21) (b' := (-1)) C dX5_pairs_7 (by decide) rfl (by decide) (fun h7 => gj_pos h7 ?_) (fun h7 => gj_neg h7 ?_)
  · exact gj_to [0, 1] (J21 a1) rfl
  · refine gj_aload_n C dX5_pairs_10 0 rfl ?_
    refine gj_iload_n C dX5_pairs_11 1 rfl ?_
    refine mj_callVI (As := [.int (iI a1)]) (rest := []) C K dX5_pairs_12 (met5_isPerson (cx_l X) g a1) (lw_V q2138 q2140 qs87 q134 q2141) hy5_isPerson hR (Nat.le_of_ble_eq_true rfl) (by decide) rfl rfl (Nat.zero_le _) (fun v12 => ?_)
    refine gj_if_ne (tgt := 21) C dX5_pairs_15 (by decide) (fun h15 => gj_neg h15 ?_) (fun h15 => gj_pos h15 ?_)
    · exact gj_to [0, 1] (J21 a1) rfl
    · refine gj_bipush C dX5_pairs_18 rfl ?_
      exact mj_iret C hQ hr dX5_pairs_20
def m5_tale (a1 a2 a3 : Int) : MM Int :=
  pbnd (mput 0 0) fun _ =>
  pbnd (m5_isPerson a1) fun v7 =>
  pite (w32 v7 = 0) (
    pbnd (pzo 0) fun _ => pret 0) (
    pbnd (m5_within a2 1 7) fun v17 =>
    pite (w32 v17 = 0) (
      pbnd (pzo 0) fun _ => pret 0) (
      pbnd (m5_within a3 0 9999) fun v28 =>
      pite (w32 v28 = 0) (
        pbnd (pzo 0) fun _ => pret 0) (
        pbnd (mrd 14 1656 46) fun v40 =>
        pite (w32 v40 = 8) (
          pbnd (pzo 0) fun _ => pret 0) (
          pbnd (mrd 14 1656 46) fun v57 =>
          plet (47 + ((3 * v57))) fun x60 =>
          pbnd (mwr 14 1656 x60 (w32 a1)) fun _ =>
          pbnd (mwr 14 1656 (x60 + 1) (w32 a2)) fun _ =>
          pbnd (mwr 14 1656 (x60 + 2) (w32 a3)) fun _ =>
          pbnd (mrd 14 1656 46) fun v97 =>
          pbnd (mwr 14 1656 46 (w32 (v97 + 1))) fun _ =>
          pbnd (pzo 1) fun _ => pret 1))))
set_option maxHeartbeats 4000000 in
set_option maxRecDepth 100000 in
theorem met5_tale (l : Launch) (g : MG) (a1 a2 a3 : Int) : MMet l g yX5_tale cX5_tale 5 (Option.some Jvm.ClassFile.FieldType.boolean) (2) [.ref (g.2.2), .int (iI a1), .int (iI a2), .int (iI a3)] (m5_tale a1 a2 a3) rvI := by
  refine mj_start (by decide +kernel) rfl (Nat.le_of_ble_eq_true rfl) (fun X Q hl C K hQ hR hr => ?_)
  subst hl
  show GJ X 5 (mWo g (cx_s X).heap) Q (m5_tale a1 a2 a3) 0 [(0, .ref (g.2.2)), (1, .int (iI a1)), (2, .int (iI a2)), (3, .int (iI a3))] []
  unfold m5_tale
  refine gj_aload_n C dX5_tale_0 0 rfl ?_
  refine gj_iconst C dX5_tale_1 ?_
  refine mj_putI (kf := 0) C K dX5_tale_2 (by decide) (by decide) rfl q1871 rfl rfl (by decide +kernel) ?_
  refine gj_aload_n C dX5_tale_5 0 rfl ?_
  refine gj_iload_n C dX5_tale_6 1 rfl ?_
  refine mj_callVI (As := [.int (iI a1)]) (rest := []) C K dX5_tale_7 (met5_isPerson (cx_l X) g a1) (lw_V q2138 q2140 qs87 q134 q2141) hy5_isPerson hR (Nat.le_of_ble_eq_true rfl) (by decide) rfl rfl (Nat.zero_le _) (fun v7 => ?_)
  refine gj_if_eq (tgt := 46) C dX5_tale_10 (by decide) (fun h10 => gj_pos h10 ?_) (fun h10 => gj_neg h10 ?_)
  · refine gj_iconst C dX5_tale_46 ?_
    exact mj_zret C hQ hr dX5_tale_47
  · refine gj_iload_n C dX5_tale_13 2 rfl ?_
    refine gj_iconst C dX5_tale_14 ?_
    refine gj_bipush C dX5_tale_15 rfl ?_
    refine mj_callSI (As := [.int (iI a2), .int (iI 1), .int (iI 7)]) (rest := []) C K dX5_tale_17 (met5_within (cx_l X) g a2 1 7) (lw_S q2142 q2143 q134 q2144) hy5s_within hR (Nat.le_of_ble_eq_true rfl) (by decide) rfl rfl (Nat.zero_le _) (fun v17 => ?_)
    refine gj_if_eq (tgt := 46) C dX5_tale_20 (by decide) (fun h20 => gj_pos h20 ?_) (fun h20 => gj_neg h20 ?_)
    · refine gj_iconst C dX5_tale_46 ?_
      exact mj_zret C hQ hr dX5_tale_47
    · refine gj_iload_n C dX5_tale_23 3 rfl ?_
      refine gj_iconst C dX5_tale_24 ?_
      refine gj_sipush C dX5_tale_25 rfl ?_
      refine mj_callSI (As := [.int (iI a3), .int (iI 0), .int (iI 9999)]) (rest := []) C K dX5_tale_28 (met5_within (cx_l X) g a3 0 9999) (lw_S q2142 q2143 q134 q2144) hy5s_within hR (Nat.le_of_ble_eq_true rfl) (by decide) rfl rfl (Nat.zero_le _) (fun v28 => ?_)
      refine gj_if_eq (tgt := 46) C dX5_tale_31 (by decide) (fun h31 => gj_pos h31 ?_) (fun h31 => gj_neg h31 ?_)
      · refine gj_iconst C dX5_tale_46 ?_
        exact mj_zret C hQ hr dX5_tale_47
      · refine gj_aload_n C dX5_tale_34 0 rfl ?_
        refine mj_getR (kf := 23) (j := 14) C K dX5_tale_35 (by decide) (by decide) rfl (by decide) q1894 rfl ?_
        refine gj_bipush C dX5_tale_38 rfl ?_
        refine mj_iald (j := 14) C K dX5_tale_40 (by decide) rfl (fun v40 => ?_)
        refine gj_bipush C dX5_tale_41 rfl ?_
        refine gj_icmp_ne (tgt := 48) (b' := 8) C dX5_tale_43 (by decide) rfl (by decide) (fun h43 => gj_neg h43 ?_) (fun h43 => gj_pos h43 ?_)
        · refine gj_bipush C dX5_tale_48 rfl ?_
          refine gj_iconst C dX5_tale_50 ?_
          refine gj_aload_n C dX5_tale_51 0 rfl ?_
          refine mj_getR (kf := 23) (j := 14) C K dX5_tale_52 (by decide) (by decide) rfl (by decide) q1894 rfl ?_
          refine gj_bipush C dX5_tale_55 rfl ?_
          refine mj_iald (j := 14) C K dX5_tale_57 (by decide) rfl (fun v57 => ?_)
          refine gj_imul C dX5_tale_58 ?_
          refine gj_iadd C dX5_tale_59 ?_
          refine gj_let (fun x60 => ?_)
          refine gj_istore (L' := [(4, _), (0, _), (1, _), (2, _), (3, _)]) C dX5_tale_60 (by decide) rfl ?_
          refine gj_aload_n C dX5_tale_62 1 rfl ?_
          refine mj_getR (kf := 23) (j := 14) C K dX5_tale_63 (by decide) (by decide) rfl (by decide) q1894 rfl ?_
          refine gj_iload C dX5_tale_66 0 rfl ?_
          refine gj_iload_n C dX5_tale_68 2 rfl ?_
          refine gj_nrmI ?_
          refine mj_iast (j := 14) C K dX5_tale_69 (by decide) (by decide) rfl ?_
          refine gj_aload_n C dX5_tale_70 1 rfl ?_
          refine mj_getR (kf := 23) (j := 14) C K dX5_tale_71 (by decide) (by decide) rfl (by decide) q1894 rfl ?_
          refine gj_iload C dX5_tale_74 0 rfl ?_
          refine gj_iconst C dX5_tale_76 ?_
          refine gj_iadd C dX5_tale_77 ?_
          refine gj_iload_n C dX5_tale_78 3 rfl ?_
          refine gj_nrmI ?_
          refine mj_iast (j := 14) C K dX5_tale_79 (by decide) (by decide) rfl ?_
          refine gj_aload_n C dX5_tale_80 1 rfl ?_
          refine mj_getR (kf := 23) (j := 14) C K dX5_tale_81 (by decide) (by decide) rfl (by decide) q1894 rfl ?_
          refine gj_iload C dX5_tale_84 0 rfl ?_
          refine gj_iconst C dX5_tale_86 ?_
          refine gj_iadd C dX5_tale_87 ?_
          refine gj_iload_n C dX5_tale_88 4 rfl ?_
          refine gj_nrmI ?_
          refine mj_iast (j := 14) C K dX5_tale_89 (by decide) (by decide) rfl ?_
          refine gj_aload_n C dX5_tale_90 1 rfl ?_
          refine mj_getR (kf := 23) (j := 14) C K dX5_tale_91 (by decide) (by decide) rfl (by decide) q1894 rfl ?_
          refine gj_bipush C dX5_tale_94 rfl ?_
          refine gj_dup2 C dX5_tale_96 rfl rfl ?_
          refine mj_iald (j := 14) C K dX5_tale_97 (by decide) rfl (fun v97 => ?_)
          refine gj_iconst C dX5_tale_98 ?_
          refine gj_iadd C dX5_tale_99 ?_
          refine gj_nrmI ?_
          refine mj_iast (j := 14) C K dX5_tale_100 (by decide) (by decide) rfl ?_
          refine gj_iconst C dX5_tale_101 ?_
          exact mj_zret C hQ hr dX5_tale_102
        · refine gj_iconst C dX5_tale_46 ?_
          exact mj_zret C hQ hr dX5_tale_47
def m5_isAsTold_j88 (a2 a3 s0 : Int) (bk4 : (Int × Int) → MM Int) (bk19 : (Int × Int) → MM Int) : MM Int :=
  bk19 (s0, a3 + 1)
def m5_isAsTold_j87 (a2 a3 : Int) (bk4 : (Int × Int) → MM Int) (bk19 : (Int × Int) → MM Int) : MM Int :=
  m5_isAsTold_j88 a2 a3 0 bk4 bk19
def m5_isAsTold_j83 (a2 a3 : Int) (bk4 : (Int × Int) → MM Int) (bk19 : (Int × Int) → MM Int) : MM Int :=
  m5_isAsTold_j88 a2 a3 1 bk4 bk19
def m5_isAsTold_b19 (a2 : Int) (bk4 : (Int × Int) → MM Int) (a1 a3 : Int) (bk19 : (Int × Int) → MM Int) : MM Int :=
  pbnd (mrd 14 1656 46) fun v26 =>
  pite (w32 a3 < w32 v26) (
    plet (47 + ((3 * a3))) fun x36 =>
    pite (w32 a1 = 0) (
      m5_isAsTold_j87 a2 a3 bk4 bk19) (
      pbnd (mrd 14 1656 (x36 + 1)) fun v50 =>
      pite (w32 v50 = w32 a2) (
        pbnd (mrd 14 1656 x36) fun v68 =>
        pbnd (mrd 14 1656 (1588 + v68)) fun v70 =>
        pbnd (mrd 14 1656 (x36 + 2)) fun v79 =>
        pite (w32 v70 = w32 v79) (
          m5_isAsTold_j83 a2 a3 bk4 bk19) (
          m5_isAsTold_j87 a2 a3 bk4 bk19)) (
        m5_isAsTold_j83 a2 a3 bk4 bk19))) (
    bk4 (a1, a2 + 1))
def m5_isAsTold_l19 (a1 a2 a3 : Int) (bk4 : (Int × Int) → MM Int) : MM Int :=
  ploop (fun (s : (Int × Int)) bk19 => m5_isAsTold_b19 a2 bk4 s.1 s.2 bk19) (a1, a3)
def m5_isAsTold_b4 (a1 a2 : Int) (bk4 : (Int × Int) → MM Int) : MM Int :=
  pite (7 < w32 a2) (
    pbnd (pzo a1) fun _ => pret a1) (
    pbnd (m5_passes 1584) fun _ =>
    m5_isAsTold_l19 a1 a2 0 bk4)
def m5_isAsTold_l4 (a1 a2 : Int) : MM Int :=
  ploop (fun (s : (Int × Int)) bk4 => m5_isAsTold_b4 s.1 s.2 bk4) (a1, a2)
def m5_isAsTold : MM Int :=
  m5_isAsTold_l4 1 1
set_option maxHeartbeats 4000000 in
set_option maxRecDepth 100000 in
theorem met5_isAsTold (l : Launch) (g : MG) : MMet l g yX5_isAsTold cX5_isAsTold 5 (Option.some Jvm.ClassFile.FieldType.boolean) (4) [.ref (g.2.2)] (m5_isAsTold) rvI := by
  refine mj_start (by decide +kernel) rfl (Nat.le_of_ble_eq_true rfl) (fun X Q hl C K hQ hR hr => ?_)
  subst hl
  show GJ X 5 (mWo g (cx_s X).heap) Q (m5_isAsTold) 0 [(0, .ref (g.2.2))] []
  have J4 : ∀ (a1 a2 : Int), GJ X 5 (mWo g (cx_s X).heap) Q (m5_isAsTold_l4 a1 a2) 4 [(0, .ref (g.2.2)), (1, .int (iI a1)), (2, .int (iI a2))] [] := by
    intro a1 a2
    unfold m5_isAsTold_l4
    refine gj_loop (fun (s : (Int × Int)) => [(0, .ref (g.2.2)), (1, .int (iI (s.1))), (2, .int (iI (s.2)))]) (a1, a2) (fun bk4 hb4 s => ?_)
    obtain ⟨a1, a2⟩ := s
    show GJ X 5 (mWo g (cx_s X).heap) Q (m5_isAsTold_b4 a1 a2 bk4) 4 [(0, .ref (g.2.2)), (1, .int (iI a1)), (2, .int (iI a2))] []
    have J19 : ∀ (a1 a2 a3 : Int), GJ X 5 (mWo g (cx_s X).heap) Q (m5_isAsTold_l19 a1 a2 a3 bk4) 19 [(0, .ref (g.2.2)), (1, .int (iI a1)), (2, .int (iI a2)), (3, .int (iI a3))] [] := by
      intro a1 a2 a3
      unfold m5_isAsTold_l19
      refine gj_loop (fun (s : (Int × Int)) => [(0, .ref (g.2.2)), (1, .int (iI (s.1))), (2, .int (iI a2)), (3, .int (iI (s.2)))]) (a1, a3) (fun bk19 hb19 s => ?_)
      obtain ⟨a1, a3⟩ := s
      show GJ X 5 (mWo g (cx_s X).heap) Q (m5_isAsTold_b19 a2 bk4 a1 a3 bk19) 19 [(0, .ref (g.2.2)), (1, .int (iI a1)), (2, .int (iI a2)), (3, .int (iI a3))] []
      have J88 : ∀ (a3 s0 : Int), GJ X 5 (mWo g (cx_s X).heap) Q (m5_isAsTold_j88 a2 a3 s0 bk4 bk19) 88 [(0, .ref (g.2.2)), (2, .int (iI a2)), (3, .int (iI a3))] [.int (iI s0)] := by
        intro a3 s0
        unfold m5_isAsTold_j88
        refine gj_istore_n (L' := [(1, _), (0, _), (2, _), (3, _)]) C dX5_isAsTold_88 (by decide) rfl ?_
        refine gj_iinc (L' := [(3, _), (1, _), (0, _), (2, _)]) C dX5_isAsTold_89 3 rfl (by decide) rfl ?_
        refine gj_goto (tgt := 19) C dX5_isAsTold_92 (by decide) ?_
        exact gj_to [2, 1, 3, 0] (hb19 (s0, a3 + 1)) rfl
      have J87 : ∀ (a3 : Int), GJ X 5 (mWo g (cx_s X).heap) Q (m5_isAsTold_j87 a2 a3 bk4 bk19) 87 [(0, .ref (g.2.2)), (2, .int (iI a2)), (3, .int (iI a3))] [] := by
        intro a3
        unfold m5_isAsTold_j87
        refine gj_iconst C dX5_isAsTold_87 ?_
        exact gj_to [0, 1, 2] (J88 a3 0) rfl
      have J83 : ∀ (a3 : Int), GJ X 5 (mWo g (cx_s X).heap) Q (m5_isAsTold_j83 a2 a3 bk4 bk19) 83 [(0, .ref (g.2.2)), (2, .int (iI a2)), (3, .int (iI a3))] [] := by
        intro a3
        unfold m5_isAsTold_j83
        refine gj_iconst C dX5_isAsTold_83 ?_
        refine gj_goto (tgt := 88) C dX5_isAsTold_84 (by decide) ?_
        exact gj_to [0, 1, 2] (J88 a3 1) rfl
      unfold m5_isAsTold_b19
      refine gj_iload_n C dX5_isAsTold_19 3 rfl ?_
      refine gj_aload_n C dX5_isAsTold_20 0 rfl ?_
      refine mj_getR (kf := 23) (j := 14) C K dX5_isAsTold_21 (by decide) (by decide) rfl (by decide) q1894 rfl ?_
      refine gj_bipush C dX5_isAsTold_24 rfl ?_
      refine mj_iald (j := 14) C K dX5_isAsTold_26 (by decide) rfl (fun v26 => ?_)
      refine gj_icmp_ge (tgt := 95) C dX5_isAsTold_27 (by decide) rfl rfl (fun h27 => gj_neg h27 ?_) (fun h27 => gj_pos h27 ?_)
      · refine gj_iinc (L' := [(2, _), (0, _), (1, _), (3, _)]) C dX5_isAsTold_95 2 rfl (by decide) rfl ?_
        refine gj_goto (tgt := 4) C dX5_isAsTold_98 (by decide) ?_
        exact gj_to [1, 2, 0] (hb4 (a1, a2 + 1)) rfl
      · refine gj_bipush C dX5_isAsTold_30 rfl ?_
        refine gj_iconst C dX5_isAsTold_32 ?_
        refine gj_iload_n C dX5_isAsTold_33 3 rfl ?_
        refine gj_imul C dX5_isAsTold_34 ?_
        refine gj_iadd C dX5_isAsTold_35 ?_
        refine gj_let (fun x36 => ?_)
        refine gj_istore (L' := [(4, _), (0, _), (1, _), (2, _), (3, _)]) C dX5_isAsTold_36 (by decide) rfl ?_
        refine gj_iload_n C dX5_isAsTold_38 2 rfl ?_
        refine gj_if_eq (tgt := 87) C dX5_isAsTold_39 (by decide) (fun h39 => gj_pos h39 ?_) (fun h39 => gj_neg h39 ?_)
        · exact gj_to [1, 3, 4] (J87 a3) rfl
        · refine gj_aload_n C dX5_isAsTold_42 1 rfl ?_
          refine mj_getR (kf := 23) (j := 14) C K dX5_isAsTold_43 (by decide) (by decide) rfl (by decide) q1894 rfl ?_
          refine gj_iload C dX5_isAsTold_46 0 rfl ?_
          refine gj_iconst C dX5_isAsTold_48 ?_
          refine gj_iadd C dX5_isAsTold_49 ?_
          refine mj_iald (j := 14) C K dX5_isAsTold_50 (by decide) rfl (fun v50 => ?_)
          refine gj_iload_n C dX5_isAsTold_51 3 rfl ?_
          refine gj_icmp_ne (tgt := 83) C dX5_isAsTold_52 (by decide) rfl rfl (fun h52 => gj_neg h52 ?_) (fun h52 => gj_pos h52 ?_)
          · exact gj_to [1, 3, 4] (J83 a3) rfl
          · refine gj_aload_n C dX5_isAsTold_55 1 rfl ?_
            refine mj_getR (kf := 23) (j := 14) C K dX5_isAsTold_56 (by decide) (by decide) rfl (by decide) q1894 rfl ?_
            refine gj_sipush C dX5_isAsTold_59 rfl ?_
            refine gj_aload_n C dX5_isAsTold_62 1 rfl ?_
            refine mj_getR (kf := 23) (j := 14) C K dX5_isAsTold_63 (by decide) (by decide) rfl (by decide) q1894 rfl ?_
            refine gj_iload C dX5_isAsTold_66 0 rfl ?_
            refine mj_iald (j := 14) C K dX5_isAsTold_68 (by decide) rfl (fun v68 => ?_)
            refine gj_iadd C dX5_isAsTold_69 ?_
            refine mj_iald (j := 14) C K dX5_isAsTold_70 (by decide) rfl (fun v70 => ?_)
            refine gj_aload_n C dX5_isAsTold_71 1 rfl ?_
            refine mj_getR (kf := 23) (j := 14) C K dX5_isAsTold_72 (by decide) (by decide) rfl (by decide) q1894 rfl ?_
            refine gj_iload C dX5_isAsTold_75 0 rfl ?_
            refine gj_iconst C dX5_isAsTold_77 ?_
            refine gj_iadd C dX5_isAsTold_78 ?_
            refine mj_iald (j := 14) C K dX5_isAsTold_79 (by decide) rfl (fun v79 => ?_)
            refine gj_icmp_ne (tgt := 87) C dX5_isAsTold_80 (by decide) rfl rfl (fun h80 => gj_neg h80 ?_) (fun h80 => gj_pos h80 ?_)
            · exact gj_to [1, 3, 4] (J87 a3) rfl
            · exact gj_to [1, 3, 4] (J83 a3) rfl
    unfold m5_isAsTold_b4
    refine gj_iload_n C dX5_isAsTold_4 2 rfl ?_
    refine gj_bipush C dX5_isAsTold_5 rfl ?_
    refine gj_icmp_gt (tgt := 101) (b' := 7) C dX5_isAsTold_7 (by decide) rfl (by decide) (fun h7 => gj_pos h7 ?_) (fun h7 => gj_neg h7 ?_)
    · refine gj_iload_n C dX5_isAsTold_101 1 rfl ?_
      exact mj_zret C hQ hr dX5_isAsTold_102
    · refine gj_aload_n C dX5_isAsTold_10 0 rfl ?_
      refine gj_sipush C dX5_isAsTold_11 rfl ?_
      refine mj_callVV (As := [.int (iI 1584)]) (rest := []) C K dX5_isAsTold_14 (met5_passes (cx_l X) g 1584) (lw_V q2221 q2223 qs100 q134 q2224) hy5_passes hR (Nat.le_of_ble_eq_true rfl) (by decide) rfl rfl (Nat.zero_le _) ?_
      refine gj_iconst C dX5_isAsTold_17 ?_
      refine gj_istore_n (L' := [(3, _), (0, _), (1, _), (2, _)]) C dX5_isAsTold_18 (by decide) rfl ?_
      exact gj_to [1, 2, 3, 0] (J19 a1 a2 0) rfl
  unfold m5_isAsTold
  refine gj_iconst C dX5_isAsTold_0 ?_
  refine gj_istore_n (L' := [(1, _), (0, _)]) C dX5_isAsTold_1 (by decide) rfl ?_
  refine gj_iconst C dX5_isAsTold_2 ?_
  refine gj_istore_n (L' := [(2, _), (1, _), (0, _)]) C dX5_isAsTold_3 (by decide) rfl ?_
  exact gj_to [2, 1, 0] (J4 1 1) rfl
def m5_findFitting_b7 (a1 : Int) (bk7 : (Int) → MM Unit) : MM Unit :=
  pbnd (mget 29) fun v9 =>
  pite (w32 a1 < w32 v9) (
    pbnd (m5_copies 0 1584 46) fun _ =>
    pbnd (m5_leaves 1584 a1) fun _ =>
    pbnd (m5_isAsTold) fun v39 =>
    pbnd (mwrz 24 265 a1 v39) fun _ =>
    pbnd (mget 42) fun v45 =>
    pbnd (mrd 24 265 a1) fun v53 =>
    plet (if w32 v53 = 0 then 0 else 1) fun d62 =>
    pbnd (mput 42 (w32 (v45 + d62))) fun _ =>
    bk7 (a1 + 1)) (
    pret ())
def m5_findFitting_l7 (a1 : Int) : MM Unit :=
  ploop (fun (s : (Int)) bk7 => m5_findFitting_b7 s bk7) (a1)
def m5_findFitting : MM Unit :=
  pbnd (mput 42 0) fun _ =>
  m5_findFitting_l7 0
set_option maxHeartbeats 4000000 in
set_option maxRecDepth 100000 in
theorem met5_findFitting (l : Launch) (g : MG) : MMet l g yX5_findFitting cX5_findFitting 2 (Option.none : Option Jvm.ClassFile.FieldType) (5) [.ref (g.2.2)] (m5_findFitting) rvV := by
  refine mj_start (by decide +kernel) rfl (Nat.le_of_ble_eq_true rfl) (fun X Q hl C K hQ hR hr => ?_)
  subst hl
  show GJ X 2 (mWo g (cx_s X).heap) Q (m5_findFitting) 0 [(0, .ref (g.2.2))] []
  have J7 : ∀ (a1 : Int), GJ X 2 (mWo g (cx_s X).heap) Q (m5_findFitting_l7 a1) 7 [(0, .ref (g.2.2)), (1, .int (iI a1))] [] := by
    intro a1
    unfold m5_findFitting_l7
    refine gj_loop (fun (s : (Int)) => [(0, .ref (g.2.2)), (1, .int (iI s))]) (a1) (fun bk7 hb7 s => ?_)
    obtain ⟨a1, rfl⟩ : ∃ z, z = s := ⟨s, rfl⟩
    show GJ X 2 (mWo g (cx_s X).heap) Q (m5_findFitting_b7 a1 bk7) 7 [(0, .ref (g.2.2)), (1, .int (iI a1))] []
    unfold m5_findFitting_b7
    refine gj_iload_n C dX5_findFitting_7 1 rfl ?_
    refine gj_aload_n C dX5_findFitting_8 0 rfl ?_
    refine mj_getI (kf := 29) C K dX5_findFitting_9 (by decide) (by decide) rfl q1900 rfl (fun v9 => ?_)
    refine gj_icmp_ge (tgt := 72) C dX5_findFitting_12 (by decide) rfl rfl (fun h12 => gj_neg h12 ?_) (fun h12 => gj_pos h12 ?_)
    · exact mj_vret C hQ hr dX5_findFitting_72
    · refine gj_aload_n C dX5_findFitting_15 0 rfl ?_
      refine gj_iconst C dX5_findFitting_16 ?_
      refine gj_sipush C dX5_findFitting_17 rfl ?_
      refine gj_bipush C dX5_findFitting_20 rfl ?_
      refine mj_callVV (As := [.int (iI 0), .int (iI 1584), .int (iI 46)]) (rest := []) C K dX5_findFitting_22 (met5_copies (cx_l X) g 0 1584 46) (lw_V q2169 q2171 qs91 q134 q2172) hy5_copies hR (Nat.le_of_ble_eq_true rfl) (by decide) rfl rfl (Nat.zero_le _) ?_
      refine gj_aload_n C dX5_findFitting_25 0 rfl ?_
      refine gj_sipush C dX5_findFitting_26 rfl ?_
      refine gj_iload_n C dX5_findFitting_29 1 rfl ?_
      refine mj_callVV (As := [.int (iI 1584), .int (iI a1)]) (rest := []) C K dX5_findFitting_30 (met5_leaves (cx_l X) g 1584 a1) (lw_V q2189 q2191 qs94 q134 q2192) hy5_leaves hR (Nat.le_of_ble_eq_true rfl) (by decide) rfl rfl (Nat.zero_le _) ?_
      refine gj_aload_n C dX5_findFitting_33 0 rfl ?_
      refine mj_getR (kf := 41) (j := 24) C K dX5_findFitting_34 (by decide) (by decide) rfl (by decide) q1912 rfl ?_
      refine gj_iload_n C dX5_findFitting_37 1 rfl ?_
      refine gj_aload_n C dX5_findFitting_38 0 rfl ?_
      refine mj_callVI (As := []) (rest := [.int (iI a1), .ref (g.2.2 + 24)]) C K dX5_findFitting_39 (met5_isAsTold (cx_l X) g) (lw_V q2347 q2349 qs118 q134 q2350) hy5_isAsTold hR (Nat.le_of_ble_eq_true rfl) (by decide) rfl rfl (Nat.le_of_ble_eq_true rfl) (fun v39 => ?_)
      refine mj_zast (j := 24) C K dX5_findFitting_42 (by decide) (by decide) rfl ?_
      refine gj_aload_n C dX5_findFitting_43 0 rfl ?_
      refine gj_dup C dX5_findFitting_44 rfl ?_
      refine mj_getI (kf := 42) C K dX5_findFitting_45 (by decide) (by decide) rfl q1913 rfl (fun v45 => ?_)
      refine gj_aload_n C dX5_findFitting_48 0 rfl ?_
      refine mj_getR (kf := 41) (j := 24) C K dX5_findFitting_49 (by decide) (by decide) rfl (by decide) q1912 rfl ?_
      refine gj_iload_n C dX5_findFitting_52 1 rfl ?_
      refine mj_zald (j := 24) C K dX5_findFitting_53 (by decide) rfl (fun v53 => ?_)
      refine gj_dia (J := 62) (L := [(0, .ref (g.2.2)), (1, .int (iI a1))]) (st := [.int (iI v45), .ref (g.2.2)]) (fun d62 => ?_) (fun t hJ => ?_)
      · skip
        refine gj_iadd C dX5_findFitting_62 ?_
        refine gj_nrmI ?_
        refine mj_putI (kf := 42) C K dX5_findFitting_63 (by decide) (by decide) rfl q1913 rfl rfl (by decide +kernel) ?_
        refine gj_iinc (L' := [(1, _), (0, _)]) C dX5_findFitting_66 1 rfl (by decide) rfl ?_
        refine gj_goto (tgt := 7) C dX5_findFitting_69 (by decide) ?_
        exact gj_to [1, 0] (hb7 (a1 + 1)) rfl
      · refine gj_if_eq (tgt := 61) C dX5_findFitting_54 (by decide) (fun h54 => ?_) (fun h54 => ?_)
        · refine gj_iconst C dX5_findFitting_61 ?_
          exact (by rw [if_pos h54] at hJ; exact hJ)
        · refine gj_iconst C dX5_findFitting_57 ?_
          refine gj_goto (tgt := 62) C dX5_findFitting_58 (by decide) ?_
          exact (by rw [if_neg h54] at hJ; exact hJ)
  unfold m5_findFitting
  refine gj_aload_n C dX5_findFitting_0 0 rfl ?_
  refine gj_iconst C dX5_findFitting_1 ?_
  refine mj_putI (kf := 42) C K dX5_findFitting_2 (by decide) (by decide) rfl q1913 rfl rfl (by decide +kernel) ?_
  refine gj_iconst C dX5_findFitting_5 ?_
  refine gj_istore_n (L' := [(1, _), (0, _)]) C dX5_findFitting_6 (by decide) rfl ?_
  exact gj_to [1, 0] (J7 0) rfl
def m5_how : MM Int :=
  pbnd (mput 0 0) fun _ =>
  pbnd (m5_findFitting) fun _ =>
  pbnd (mget 42) fun v10 =>
  pret v10
set_option maxHeartbeats 4000000 in
set_option maxRecDepth 100000 in
theorem met5_how (l : Launch) (g : MG) : MMet l g yX5_how cX5_how 1 (Option.some Jvm.ClassFile.FieldType.int) (6) [.ref (g.2.2)] (m5_how) rvI := by
  refine mj_start (by decide +kernel) rfl (Nat.le_of_ble_eq_true rfl) (fun X Q hl C K hQ hR hr => ?_)
  subst hl
  show GJ X 1 (mWo g (cx_s X).heap) Q (m5_how) 0 [(0, .ref (g.2.2))] []
  unfold m5_how
  refine gj_aload_n C dX5_how_0 0 rfl ?_
  refine gj_iconst C dX5_how_1 ?_
  refine mj_putI (kf := 0) C K dX5_how_2 (by decide) (by decide) rfl q1871 rfl rfl (by decide +kernel) ?_
  refine gj_aload_n C dX5_how_5 0 rfl ?_
  refine mj_callVV (As := []) (rest := []) C K dX5_how_6 (met5_findFitting (cx_l X) g) (lw_V q2343 q2345 qs117 q134 q2346) hy5_findFitting hR (Nat.le_of_ble_eq_true rfl) (by decide) rfl rfl (Nat.zero_le _) ?_
  refine gj_aload_n C dX5_how_9 0 rfl ?_
  refine mj_getI (kf := 42) C K dX5_how_10 (by decide) (by decide) rfl q1913 rfl (fun v10 => ?_)
  exact mj_iret C hQ hr dX5_how_13
def m5_who_j78 (a1 a2 a3 a4 : Int) (bk26 : (Int × Int × Int) → MM Int) : MM Int :=
  bk26 (a2, a3, a4 + 1)
def m5_who_j69 (a1 a4 s0 : Int) (bk26 : (Int × Int × Int) → MM Int) : MM Int :=
  pbnd (m5_selfOf a4 a1) fun v74 =>
  m5_who_j78 a1 v74 s0 a4 bk26
def m5_who_j68 (a1 a4 : Int) (bk26 : (Int × Int × Int) → MM Int) : MM Int :=
  m5_who_j69 a1 a4 0 bk26
def m5_who_j64 (a1 a4 : Int) (bk26 : (Int × Int × Int) → MM Int) : MM Int :=
  m5_who_j69 a1 a4 1 bk26
def m5_who_b26 (a1 : Int) (a2 a3 a4 : Int) (bk26 : (Int × Int × Int) → MM Int) : MM Int :=
  pbnd (mget 29) fun v29 =>
  pite (w32 a4 < w32 v29) (
    pbnd (mrd 24 265 a4) fun v41 =>
    pite (w32 v41 = 0) (
      m5_who_j78 a1 a2 a3 a4 bk26) (
      pite (w32 a3 = 0) (
        m5_who_j68 a1 a4 bk26) (
        pite (w32 a2 < 0) (
          m5_who_j64 a1 a4 bk26) (
          pbnd (m5_selfOf a4 a1) fun v57 =>
          pite (w32 v57 = w32 a2) (
            m5_who_j64 a1 a4 bk26) (
            m5_who_j68 a1 a4 bk26))))) (
    plet (if w32 a3 = 0 then (-1) else a2) fun d93 =>
    pret (w32 d93))
def m5_who_l26 (a1 a2 a3 a4 : Int) : MM Int :=
  ploop (fun (s : (Int × Int × Int)) bk26 => m5_who_b26 a1 s.1 s.2.1 s.2.2 bk26) (a2, a3, a4)
def m5_who (a1 : Int) : MM Int :=
  pbnd (mput 0 0) fun _ =>
  pbnd (m5_isPerson a1) fun v7 =>
  pite (w32 v7 = 0) (
    pret (-1)) (
    pbnd (m5_findFitting) fun _ =>
    m5_who_l26 a1 (-1) 1 0)
set_option maxHeartbeats 4000000 in
set_option maxRecDepth 100000 in
theorem met5_who (l : Launch) (g : MG) (a1 : Int) : MMet l g yX5_who cX5_who 5 (Option.some Jvm.ClassFile.FieldType.int) (6) [.ref (g.2.2), .int (iI a1)] (m5_who a1) rvI := by
  refine mj_start (by decide +kernel) rfl (Nat.le_of_ble_eq_true rfl) (fun X Q hl C K hQ hR hr => ?_)
  subst hl
  show GJ X 5 (mWo g (cx_s X).heap) Q (m5_who a1) 0 [(0, .ref (g.2.2)), (1, .int (iI a1))] []
  have J26 : ∀ (a1 a2 a3 a4 : Int), GJ X 5 (mWo g (cx_s X).heap) Q (m5_who_l26 a1 a2 a3 a4) 26 [(0, .ref (g.2.2)), (1, .int (iI a1)), (2, .int (iI a2)), (3, .int (iI a3)), (4, .int (iI a4))] [] := by
    intro a1 a2 a3 a4
    unfold m5_who_l26
    refine gj_loop (fun (s : (Int × Int × Int)) => [(0, .ref (g.2.2)), (1, .int (iI a1)), (2, .int (iI (s.1))), (3, .int (iI (s.2.1))), (4, .int (iI (s.2.2)))]) (a2, a3, a4) (fun bk26 hb26 s => ?_)
    obtain ⟨a2, a3, a4⟩ := s
    show GJ X 5 (mWo g (cx_s X).heap) Q (m5_who_b26 a1 a2 a3 a4 bk26) 26 [(0, .ref (g.2.2)), (1, .int (iI a1)), (2, .int (iI a2)), (3, .int (iI a3)), (4, .int (iI a4))] []
    have J78 : ∀ (a2 a3 a4 : Int), GJ X 5 (mWo g (cx_s X).heap) Q (m5_who_j78 a1 a2 a3 a4 bk26) 78 [(0, .ref (g.2.2)), (1, .int (iI a1)), (2, .int (iI a2)), (3, .int (iI a3)), (4, .int (iI a4))] [] := by
      intro a2 a3 a4
      unfold m5_who_j78
      refine gj_iinc (L' := [(4, _), (0, _), (1, _), (2, _), (3, _)]) C dX5_who_78 4 rfl (by decide) rfl ?_
      refine gj_goto (tgt := 26) C dX5_who_81 (by decide) ?_
      exact gj_to [1, 2, 3, 4, 0] (hb26 (a2, a3, a4 + 1)) rfl
    have J69 : ∀ (a4 s0 : Int), GJ X 5 (mWo g (cx_s X).heap) Q (m5_who_j69 a1 a4 s0 bk26) 69 [(0, .ref (g.2.2)), (1, .int (iI a1)), (4, .int (iI a4))] [.int (iI s0)] := by
      intro a4 s0
      unfold m5_who_j69
      refine gj_istore_n (L' := [(3, _), (0, _), (1, _), (4, _)]) C dX5_who_69 (by decide) rfl ?_
      refine gj_aload_n C dX5_who_70 1 rfl ?_
      refine gj_iload C dX5_who_71 3 rfl ?_
      refine gj_iload_n C dX5_who_73 2 rfl ?_
      refine mj_callVI (As := [.int (iI a4), .int (iI a1)]) (rest := []) C K dX5_who_74 (met5_selfOf (cx_l X) g a4 a1) (lw_V q2193 q2195 qs95 q134 q2196) hy5_selfOf hR (Nat.le_of_ble_eq_true rfl) (by decide) rfl rfl (Nat.zero_le _) (fun v74 => ?_)
      refine gj_istore_n (L' := [(2, _), (3, _), (0, _), (1, _), (4, _)]) C dX5_who_77 (by decide) rfl ?_
      exact gj_to [2, 3, 0, 1, 4] (J78 v74 s0 a4) rfl
    have J68 : ∀ (a4 : Int), GJ X 5 (mWo g (cx_s X).heap) Q (m5_who_j68 a1 a4 bk26) 68 [(0, .ref (g.2.2)), (1, .int (iI a1)), (4, .int (iI a4))] [] := by
      intro a4
      unfold m5_who_j68
      refine gj_iconst C dX5_who_68 ?_
      exact gj_to [0, 1, 2] (J69 a4 0) rfl
    have J64 : ∀ (a4 : Int), GJ X 5 (mWo g (cx_s X).heap) Q (m5_who_j64 a1 a4 bk26) 64 [(0, .ref (g.2.2)), (1, .int (iI a1)), (4, .int (iI a4))] [] := by
      intro a4
      unfold m5_who_j64
      refine gj_iconst C dX5_who_64 ?_
      refine gj_goto (tgt := 69) C dX5_who_65 (by decide) ?_
      exact gj_to [0, 1, 2] (J69 a4 1) rfl
    unfold m5_who_b26
    refine gj_iload C dX5_who_26 4 rfl ?_
    refine gj_aload_n C dX5_who_28 0 rfl ?_
    refine mj_getI (kf := 29) C K dX5_who_29 (by decide) (by decide) rfl q1900 rfl (fun v29 => ?_)
    refine gj_icmp_ge (tgt := 84) C dX5_who_32 (by decide) rfl rfl (fun h32 => gj_neg h32 ?_) (fun h32 => gj_pos h32 ?_)
    · refine gj_iload_n C dX5_who_84 3 rfl ?_
      refine gj_dia (J := 93) (L := [(0, .ref (g.2.2)), (1, .int (iI a1)), (2, .int (iI a2)), (3, .int (iI a3)), (4, .int (iI a4))]) (st := []) (fun d93 => ?_) (fun t hJ => ?_)
      · skip
        refine gj_nrmI ?_
        exact mj_iret C hQ hr dX5_who_93
      · refine gj_if_eq (tgt := 92) C dX5_who_85 (by decide) (fun h85 => ?_) (fun h85 => ?_)
        · refine gj_iconst C dX5_who_92 ?_
          exact (by rw [if_pos h85] at hJ; exact hJ)
        · refine gj_iload_n C dX5_who_88 2 rfl ?_
          refine gj_goto (tgt := 93) C dX5_who_89 (by decide) ?_
          exact (by rw [if_neg h85] at hJ; exact hJ)
    · refine gj_aload_n C dX5_who_35 0 rfl ?_
      refine mj_getR (kf := 41) (j := 24) C K dX5_who_36 (by decide) (by decide) rfl (by decide) q1912 rfl ?_
      refine gj_iload C dX5_who_39 4 rfl ?_
      refine mj_zald (j := 24) C K dX5_who_41 (by decide) rfl (fun v41 => ?_)
      refine gj_if_eq (tgt := 78) C dX5_who_42 (by decide) (fun h42 => gj_pos h42 ?_) (fun h42 => gj_neg h42 ?_)
      · exact gj_to [0, 1, 2, 3, 4] (J78 a2 a3 a4) rfl
      · refine gj_iload_n C dX5_who_45 3 rfl ?_
        refine gj_if_eq (tgt := 68) C dX5_who_46 (by decide) (fun h46 => gj_pos h46 ?_) (fun h46 => gj_neg h46 ?_)
        · exact gj_to [0, 1, 4] (J68 a4) rfl
        · refine gj_iload_n C dX5_who_49 2 rfl ?_
          refine gj_if_lt (tgt := 64) C dX5_who_50 (by decide) (fun h50 => gj_pos h50 ?_) (fun h50 => gj_neg h50 ?_)
          · exact gj_to [0, 1, 4] (J64 a4) rfl
          · refine gj_aload_n C dX5_who_53 0 rfl ?_
            refine gj_iload C dX5_who_54 4 rfl ?_
            refine gj_iload_n C dX5_who_56 1 rfl ?_
            refine mj_callVI (As := [.int (iI a4), .int (iI a1)]) (rest := []) C K dX5_who_57 (met5_selfOf (cx_l X) g a4 a1) (lw_V q2193 q2195 qs95 q134 q2196) hy5_selfOf hR (Nat.le_of_ble_eq_true rfl) (by decide) rfl rfl (Nat.zero_le _) (fun v57 => ?_)
            refine gj_iload_n C dX5_who_60 2 rfl ?_
            refine gj_icmp_ne (tgt := 68) C dX5_who_61 (by decide) rfl rfl (fun h61 => gj_neg h61 ?_) (fun h61 => gj_pos h61 ?_)
            · exact gj_to [0, 1, 4] (J68 a4) rfl
            · exact gj_to [0, 1, 4] (J64 a4) rfl
  unfold m5_who
  refine gj_aload_n C dX5_who_0 0 rfl ?_
  refine gj_iconst C dX5_who_1 ?_
  refine mj_putI (kf := 0) C K dX5_who_2 (by decide) (by decide) rfl q1871 rfl rfl (by decide +kernel) ?_
  refine gj_aload_n C dX5_who_5 0 rfl ?_
  refine gj_iload_n C dX5_who_6 1 rfl ?_
  refine mj_callVI (As := [.int (iI a1)]) (rest := []) C K dX5_who_7 (met5_isPerson (cx_l X) g a1) (lw_V q2138 q2140 qs87 q134 q2141) hy5_isPerson hR (Nat.le_of_ble_eq_true rfl) (by decide) rfl rfl (Nat.zero_le _) (fun v7 => ?_)
  refine gj_if_ne (tgt := 15) C dX5_who_10 (by decide) (fun h10 => gj_neg h10 ?_) (fun h10 => gj_pos h10 ?_)
  · refine gj_aload_n C dX5_who_15 0 rfl ?_
    refine mj_callVV (As := []) (rest := []) C K dX5_who_16 (met5_findFitting (cx_l X) g) (lw_V q2343 q2345 qs117 q134 q2346) hy5_findFitting hR (Nat.le_of_ble_eq_true rfl) (by decide) rfl rfl (Nat.zero_le _) ?_
    refine gj_iconst C dX5_who_19 ?_
    refine gj_istore_n (L' := [(2, _), (0, _), (1, _)]) C dX5_who_20 (by decide) rfl ?_
    refine gj_iconst C dX5_who_21 ?_
    refine gj_istore_n (L' := [(3, _), (2, _), (0, _), (1, _)]) C dX5_who_22 (by decide) rfl ?_
    refine gj_iconst C dX5_who_23 ?_
    refine gj_istore (L' := [(4, _), (3, _), (2, _), (0, _), (1, _)]) C dX5_who_24 (by decide) rfl ?_
    exact gj_to [3, 4, 2, 1, 0] (J26 a1 (-1) 1 0) rfl
  · refine gj_iconst C dX5_who_13 ?_
    exact mj_iret C hQ hr dX5_who_14
def m5_findPurses_b50 (a1 a2 : Int) (bk2 : (Int) → MM Unit) (a3 : Int) (bk50 : (Int) → MM Unit) : MM Unit :=
  pbnd (m5_people) fun v52 =>
  pite (w32 a3 < w32 v52) (
    pbnd (mrd 14 1656 (1588 + a3)) fun v77 =>
    pbnd (mwr 23 1590 (((6 * a2)) + a3) v77) fun _ =>
    bk50 (a3 + 1)) (
    bk2 (a2 + 1))
def m5_findPurses_l50 (a1 a2 a3 : Int) (bk2 : (Int) → MM Unit) : MM Unit :=
  ploop (fun (s : (Int)) bk50 => m5_findPurses_b50 a1 a2 bk2 s bk50) (a3)
def m5_findPurses_b30 (a1 a2 : Int) (bk2 : (Int) → MM Unit) (a3 : Int) (bk30 : (Int) → MM Unit) : MM Unit :=
  pite (w32 a3 < w32 a1) (
    pbnd (m5_passes 1584) fun _ =>
    bk30 (a3 + 1)) (
    m5_findPurses_l50 a1 a2 0 bk2)
def m5_findPurses_l30 (a1 a2 a3 : Int) (bk2 : (Int) → MM Unit) : MM Unit :=
  ploop (fun (s : (Int)) bk30 => m5_findPurses_b30 a1 a2 bk2 s bk30) (a3)
def m5_findPurses_b2 (a1 : Int) (a2 : Int) (bk2 : (Int) → MM Unit) : MM Unit :=
  pbnd (mget 29) fun v4 =>
  pite (w32 a2 < w32 v4) (
    pbnd (m5_copies 0 1584 46) fun _ =>
    pbnd (m5_leaves 1584 a2) fun _ =>
    m5_findPurses_l30 a1 a2 0 bk2) (
    pret ())
def m5_findPurses_l2 (a1 a2 : Int) : MM Unit :=
  ploop (fun (s : (Int)) bk2 => m5_findPurses_b2 a1 s bk2) (a2)
def m5_findPurses (a1 : Int) : MM Unit :=
  m5_findPurses_l2 a1 0
set_option maxHeartbeats 4000000 in
set_option maxRecDepth 100000 in
theorem met5_findPurses (l : Launch) (g : MG) (a1 : Int) : MMet l g yX5_findPurses cX5_findPurses 4 (Option.none : Option Jvm.ClassFile.FieldType) (4) [.ref (g.2.2), .int (iI a1)] (m5_findPurses a1) rvV := by
  refine mj_start (by decide +kernel) rfl (Nat.le_of_ble_eq_true rfl) (fun X Q hl C K hQ hR hr => ?_)
  subst hl
  show GJ X 4 (mWo g (cx_s X).heap) Q (m5_findPurses a1) 0 [(0, .ref (g.2.2)), (1, .int (iI a1))] []
  have J2 : ∀ (a1 a2 : Int), GJ X 4 (mWo g (cx_s X).heap) Q (m5_findPurses_l2 a1 a2) 2 [(0, .ref (g.2.2)), (1, .int (iI a1)), (2, .int (iI a2))] [] := by
    intro a1 a2
    unfold m5_findPurses_l2
    refine gj_loop (fun (s : (Int)) => [(0, .ref (g.2.2)), (1, .int (iI a1)), (2, .int (iI s))]) (a2) (fun bk2 hb2 s => ?_)
    obtain ⟨a2, rfl⟩ : ∃ z, z = s := ⟨s, rfl⟩
    show GJ X 4 (mWo g (cx_s X).heap) Q (m5_findPurses_b2 a1 a2 bk2) 2 [(0, .ref (g.2.2)), (1, .int (iI a1)), (2, .int (iI a2))] []
    have J50 : ∀ (a2 a3 : Int), GJ X 4 (mWo g (cx_s X).heap) Q (m5_findPurses_l50 a1 a2 a3 bk2) 50 [(0, .ref (g.2.2)), (1, .int (iI a1)), (2, .int (iI a2)), (3, .int (iI a3))] [] := by
      intro a2 a3
      unfold m5_findPurses_l50
      refine gj_loop (fun (s : (Int)) => [(0, .ref (g.2.2)), (1, .int (iI a1)), (2, .int (iI a2)), (3, .int (iI s))]) (a3) (fun bk50 hb50 s => ?_)
      obtain ⟨a3, rfl⟩ : ∃ z, z = s := ⟨s, rfl⟩
      show GJ X 4 (mWo g (cx_s X).heap) Q (m5_findPurses_b50 a1 a2 bk2 a3 bk50) 50 [(0, .ref (g.2.2)), (1, .int (iI a1)), (2, .int (iI a2)), (3, .int (iI a3))] []
      unfold m5_findPurses_b50
      refine gj_iload_n C dX5_findPurses_50 3 rfl ?_
      refine gj_aload_n C dX5_findPurses_51 0 rfl ?_
      refine mj_callVI (As := []) (rest := [.int (iI a3)]) C K dX5_findPurses_52 (met5_people (cx_l X) g) (lw_V q1851 q1853 qs55 q134 q1854) hy5_people hR (Nat.le_of_ble_eq_true rfl) (by decide) rfl rfl (Nat.le_of_ble_eq_true rfl) (fun v52 => ?_)
      refine gj_icmp_ge (tgt := 85) C dX5_findPurses_55 (by decide) rfl rfl (fun h55 => gj_neg h55 ?_) (fun h55 => gj_pos h55 ?_)
      · refine gj_iinc (L' := [(2, _), (0, _), (1, _), (3, _)]) C dX5_findPurses_85 2 rfl (by decide) rfl ?_
        refine gj_goto (tgt := 2) C dX5_findPurses_88 (by decide) ?_
        exact gj_to [1, 2, 0] (hb2 (a2 + 1)) rfl
      · refine gj_aload_n C dX5_findPurses_58 0 rfl ?_
        refine mj_getR (kf := 40) (j := 23) C K dX5_findPurses_59 (by decide) (by decide) rfl (by decide) q1911 rfl ?_
        refine gj_bipush C dX5_findPurses_62 rfl ?_
        refine gj_iload_n C dX5_findPurses_64 2 rfl ?_
        refine gj_imul C dX5_findPurses_65 ?_
        refine gj_iload_n C dX5_findPurses_66 3 rfl ?_
        refine gj_iadd C dX5_findPurses_67 ?_
        refine gj_aload_n C dX5_findPurses_68 0 rfl ?_
        refine mj_getR (kf := 23) (j := 14) C K dX5_findPurses_69 (by decide) (by decide) rfl (by decide) q1894 rfl ?_
        refine gj_sipush C dX5_findPurses_72 rfl ?_
        refine gj_iload_n C dX5_findPurses_75 3 rfl ?_
        refine gj_iadd C dX5_findPurses_76 ?_
        refine mj_iald (j := 14) C K dX5_findPurses_77 (by decide) rfl (fun v77 => ?_)
        refine mj_iast (j := 23) C K dX5_findPurses_78 (by decide) (by decide) rfl ?_
        refine gj_iinc (L' := [(3, _), (0, _), (1, _), (2, _)]) C dX5_findPurses_79 3 rfl (by decide) rfl ?_
        refine gj_goto (tgt := 50) C dX5_findPurses_82 (by decide) ?_
        exact gj_to [1, 2, 3, 0] (hb50 (a3 + 1)) rfl
    have J30 : ∀ (a2 a3 : Int), GJ X 4 (mWo g (cx_s X).heap) Q (m5_findPurses_l30 a1 a2 a3 bk2) 30 [(0, .ref (g.2.2)), (1, .int (iI a1)), (2, .int (iI a2)), (3, .int (iI a3))] [] := by
      intro a2 a3
      unfold m5_findPurses_l30
      refine gj_loop (fun (s : (Int)) => [(0, .ref (g.2.2)), (1, .int (iI a1)), (2, .int (iI a2)), (3, .int (iI s))]) (a3) (fun bk30 hb30 s => ?_)
      obtain ⟨a3, rfl⟩ : ∃ z, z = s := ⟨s, rfl⟩
      show GJ X 4 (mWo g (cx_s X).heap) Q (m5_findPurses_b30 a1 a2 bk2 a3 bk30) 30 [(0, .ref (g.2.2)), (1, .int (iI a1)), (2, .int (iI a2)), (3, .int (iI a3))] []
      unfold m5_findPurses_b30
      refine gj_iload_n C dX5_findPurses_30 3 rfl ?_
      refine gj_iload_n C dX5_findPurses_31 1 rfl ?_
      refine gj_icmp_ge (tgt := 48) C dX5_findPurses_32 (by decide) rfl rfl (fun h32 => gj_neg h32 ?_) (fun h32 => gj_pos h32 ?_)
      · refine gj_iconst C dX5_findPurses_48 ?_
        refine gj_istore_n (L' := [(3, _), (0, _), (1, _), (2, _)]) C dX5_findPurses_49 (by decide) rfl ?_
        exact gj_to [1, 2, 3, 0] (J50 a2 0) rfl
      · refine gj_aload_n C dX5_findPurses_35 0 rfl ?_
        refine gj_sipush C dX5_findPurses_36 rfl ?_
        refine mj_callVV (As := [.int (iI 1584)]) (rest := []) C K dX5_findPurses_39 (met5_passes (cx_l X) g 1584) (lw_V q2221 q2223 qs100 q134 q2224) hy5_passes hR (Nat.le_of_ble_eq_true rfl) (by decide) rfl rfl (Nat.zero_le _) ?_
        refine gj_iinc (L' := [(3, _), (0, _), (1, _), (2, _)]) C dX5_findPurses_42 3 rfl (by decide) rfl ?_
        refine gj_goto (tgt := 30) C dX5_findPurses_45 (by decide) ?_
        exact gj_to [1, 2, 3, 0] (hb30 (a3 + 1)) rfl
    unfold m5_findPurses_b2
    refine gj_iload_n C dX5_findPurses_2 2 rfl ?_
    refine gj_aload_n C dX5_findPurses_3 0 rfl ?_
    refine mj_getI (kf := 29) C K dX5_findPurses_4 (by decide) (by decide) rfl q1900 rfl (fun v4 => ?_)
    refine gj_icmp_ge (tgt := 91) C dX5_findPurses_7 (by decide) rfl rfl (fun h7 => gj_neg h7 ?_) (fun h7 => gj_pos h7 ?_)
    · exact mj_vret C hQ hr dX5_findPurses_91
    · refine gj_aload_n C dX5_findPurses_10 0 rfl ?_
      refine gj_iconst C dX5_findPurses_11 ?_
      refine gj_sipush C dX5_findPurses_12 rfl ?_
      refine gj_bipush C dX5_findPurses_15 rfl ?_
      refine mj_callVV (As := [.int (iI 0), .int (iI 1584), .int (iI 46)]) (rest := []) C K dX5_findPurses_17 (met5_copies (cx_l X) g 0 1584 46) (lw_V q2169 q2171 qs91 q134 q2172) hy5_copies hR (Nat.le_of_ble_eq_true rfl) (by decide) rfl rfl (Nat.zero_le _) ?_
      refine gj_aload_n C dX5_findPurses_20 0 rfl ?_
      refine gj_sipush C dX5_findPurses_21 rfl ?_
      refine gj_iload_n C dX5_findPurses_24 2 rfl ?_
      refine mj_callVV (As := [.int (iI 1584), .int (iI a2)]) (rest := []) C K dX5_findPurses_25 (met5_leaves (cx_l X) g 1584 a2) (lw_V q2189 q2191 qs94 q134 q2192) hy5_leaves hR (Nat.le_of_ble_eq_true rfl) (by decide) rfl rfl (Nat.zero_le _) ?_
      refine gj_iconst C dX5_findPurses_28 ?_
      refine gj_istore_n (L' := [(3, _), (0, _), (1, _), (2, _)]) C dX5_findPurses_29 (by decide) rfl ?_
      exact gj_to [1, 2, 3, 0] (J30 a2 0) rfl
  unfold m5_findPurses
  refine gj_iconst C dX5_findPurses_0 ?_
  refine gj_istore_n (L' := [(2, _), (0, _), (1, _)]) C dX5_findPurses_1 (by decide) rfl ?_
  exact gj_to [1, 2, 0] (J2 a1 0) rfl
def m5_greatestAlike_j88 (a1 a2 a3 a4 : Int) (bk4 : (Int × Int) → MM Int) : MM Int :=
  plet (if w32 a2 < w32 a4 then a4 else a2) fun d100 =>
  bk4 (d100, a3 + 1)
def m5_greatestAlike_j79 (a1 a2 a3 a5 s0 s1 : Int) (bk4 : (Int × Int) → MM Int) (bk18 : (Int × Int) → MM Int) : MM Int :=
  plet (s0 + s1) fun x80 =>
  bk18 (x80, a5 + 1)
def m5_greatestAlike_j78 (a1 a2 a3 a5 s0 : Int) (bk4 : (Int × Int) → MM Int) (bk18 : (Int × Int) → MM Int) : MM Int :=
  m5_greatestAlike_j79 a1 a2 a3 a5 s0 0 bk4 bk18
def m5_greatestAlike_b18 (a1 a2 a3 : Int) (bk4 : (Int × Int) → MM Int) (a4 a5 : Int) (bk18 : (Int × Int) → MM Int) : MM Int :=
  pbnd (mget 29) fun v21 =>
  pite (w32 a5 < w32 v21) (
    pbnd (mrd 24 265 a3) fun v32 =>
    pite (w32 v32 = 0) (
      m5_greatestAlike_j88 a1 a2 a3 a4 bk4) (
      pbnd (mrd 24 265 a5) fun v44 =>
      pite (w32 v44 = 0) (
        m5_greatestAlike_j78 a1 a2 a3 a5 a4 bk4 bk18) (
        pbnd (mrd 23 1590 (((6 * a5)) + a1)) fun v59 =>
        pbnd (mrd 23 1590 (((6 * a3)) + a1)) fun v70 =>
        pite (w32 v59 = w32 v70) (
          m5_greatestAlike_j79 a1 a2 a3 a5 a4 1 bk4 bk18) (
          m5_greatestAlike_j78 a1 a2 a3 a5 a4 bk4 bk18)))) (
    m5_greatestAlike_j88 a1 a2 a3 a4 bk4)
def m5_greatestAlike_l18 (a1 a2 a3 a4 a5 : Int) (bk4 : (Int × Int) → MM Int) : MM Int :=
  ploop (fun (s : (Int × Int)) bk18 => m5_greatestAlike_b18 a1 a2 a3 bk4 s.1 s.2 bk18) (a4, a5)
def m5_greatestAlike_b4 (a1 : Int) (a2 a3 : Int) (bk4 : (Int × Int) → MM Int) : MM Int :=
  pbnd (mget 29) fun v6 =>
  pite (w32 a3 < w32 v6) (
    m5_greatestAlike_l18 a1 a2 a3 0 0 bk4) (
    pret (w32 a2))
def m5_greatestAlike_l4 (a1 a2 a3 : Int) : MM Int :=
  ploop (fun (s : (Int × Int)) bk4 => m5_greatestAlike_b4 a1 s.1 s.2 bk4) (a2, a3)
def m5_greatestAlike (a1 : Int) : MM Int :=
  m5_greatestAlike_l4 a1 0 0
set_option maxHeartbeats 4000000 in
set_option maxRecDepth 100000 in
theorem met5_greatestAlike (l : Launch) (g : MG) (a1 : Int) : MMet l g yX5_greatestAlike cX5_greatestAlike 6 (Option.some Jvm.ClassFile.FieldType.int) (0) [.ref (g.2.2), .int (iI a1)] (m5_greatestAlike a1) rvI := by
  refine mj_start (by decide +kernel) rfl (Nat.le_of_ble_eq_true rfl) (fun X Q hl C K hQ hR hr => ?_)
  subst hl
  show GJ X 6 (mWo g (cx_s X).heap) Q (m5_greatestAlike a1) 0 [(0, .ref (g.2.2)), (1, .int (iI a1))] []
  have J4 : ∀ (a1 a2 a3 : Int), GJ X 6 (mWo g (cx_s X).heap) Q (m5_greatestAlike_l4 a1 a2 a3) 4 [(0, .ref (g.2.2)), (1, .int (iI a1)), (2, .int (iI a2)), (3, .int (iI a3))] [] := by
    intro a1 a2 a3
    unfold m5_greatestAlike_l4
    refine gj_loop (fun (s : (Int × Int)) => [(0, .ref (g.2.2)), (1, .int (iI a1)), (2, .int (iI (s.1))), (3, .int (iI (s.2)))]) (a2, a3) (fun bk4 hb4 s => ?_)
    obtain ⟨a2, a3⟩ := s
    show GJ X 6 (mWo g (cx_s X).heap) Q (m5_greatestAlike_b4 a1 a2 a3 bk4) 4 [(0, .ref (g.2.2)), (1, .int (iI a1)), (2, .int (iI a2)), (3, .int (iI a3))] []
    have J88 : ∀ (a2 a3 a4 : Int), GJ X 6 (mWo g (cx_s X).heap) Q (m5_greatestAlike_j88 a1 a2 a3 a4 bk4) 88 [(0, .ref (g.2.2)), (1, .int (iI a1)), (2, .int (iI a2)), (3, .int (iI a3)), (4, .int (iI a4))] [] := by
      intro a2 a3 a4
      unfold m5_greatestAlike_j88
      refine gj_iload C dX5_greatestAlike_88 4 rfl ?_
      refine gj_iload_n C dX5_greatestAlike_90 2 rfl ?_
      refine gj_dia (J := 100) (L := [(0, .ref (g.2.2)), (1, .int (iI a1)), (2, .int (iI a2)), (3, .int (iI a3)), (4, .int (iI a4))]) (st := []) (fun d100 => ?_) (fun t hJ => ?_)
      · skip
        refine gj_istore_n (L' := [(2, _), (0, _), (1, _), (3, _), (4, _)]) C dX5_greatestAlike_100 (by decide) rfl ?_
        refine gj_iinc (L' := [(3, _), (2, _), (0, _), (1, _), (4, _)]) C dX5_greatestAlike_101 3 rfl (by decide) rfl ?_
        refine gj_goto (tgt := 4) C dX5_greatestAlike_104 (by decide) ?_
        exact gj_to [2, 3, 1, 0] (hb4 (d100, a3 + 1)) rfl
      · refine gj_icmp_le (tgt := 99) C dX5_greatestAlike_91 (by decide) rfl rfl (fun h91 => ?_) (fun h91 => ?_)
        · refine gj_iload_n C dX5_greatestAlike_99 2 rfl ?_
          exact (by rw [if_neg h91] at hJ; exact hJ)
        · refine gj_iload C dX5_greatestAlike_94 4 rfl ?_
          refine gj_goto (tgt := 100) C dX5_greatestAlike_96 (by decide) ?_
          exact (by rw [if_pos h91] at hJ; exact hJ)
    have J18 : ∀ (a2 a3 a4 a5 : Int), GJ X 6 (mWo g (cx_s X).heap) Q (m5_greatestAlike_l18 a1 a2 a3 a4 a5 bk4) 18 [(0, .ref (g.2.2)), (1, .int (iI a1)), (2, .int (iI a2)), (3, .int (iI a3)), (4, .int (iI a4)), (5, .int (iI a5))] [] := by
      intro a2 a3 a4 a5
      unfold m5_greatestAlike_l18
      refine gj_loop (fun (s : (Int × Int)) => [(0, .ref (g.2.2)), (1, .int (iI a1)), (2, .int (iI a2)), (3, .int (iI a3)), (4, .int (iI (s.1))), (5, .int (iI (s.2)))]) (a4, a5) (fun bk18 hb18 s => ?_)
      obtain ⟨a4, a5⟩ := s
      show GJ X 6 (mWo g (cx_s X).heap) Q (m5_greatestAlike_b18 a1 a2 a3 bk4 a4 a5 bk18) 18 [(0, .ref (g.2.2)), (1, .int (iI a1)), (2, .int (iI a2)), (3, .int (iI a3)), (4, .int (iI a4)), (5, .int (iI a5))] []
      have J79 : ∀ (a5 s0 s1 : Int), GJ X 6 (mWo g (cx_s X).heap) Q (m5_greatestAlike_j79 a1 a2 a3 a5 s0 s1 bk4 bk18) 79 [(0, .ref (g.2.2)), (1, .int (iI a1)), (2, .int (iI a2)), (3, .int (iI a3)), (5, .int (iI a5))] [.int (iI s1), .int (iI s0)] := by
        intro a5 s0 s1
        unfold m5_greatestAlike_j79
        refine gj_iadd C dX5_greatestAlike_79 ?_
        refine gj_let (fun x80 => ?_)
        refine gj_istore (L' := [(4, _), (0, _), (1, _), (2, _), (3, _), (5, _)]) C dX5_greatestAlike_80 (by decide) rfl ?_
        refine gj_iinc (L' := [(5, _), (4, _), (0, _), (1, _), (2, _), (3, _)]) C dX5_greatestAlike_82 5 rfl (by decide) rfl ?_
        refine gj_goto (tgt := 18) C dX5_greatestAlike_85 (by decide) ?_
        exact gj_to [2, 3, 4, 5, 1, 0] (hb18 (x80, a5 + 1)) rfl
      have J78 : ∀ (a5 s0 : Int), GJ X 6 (mWo g (cx_s X).heap) Q (m5_greatestAlike_j78 a1 a2 a3 a5 s0 bk4 bk18) 78 [(0, .ref (g.2.2)), (1, .int (iI a1)), (2, .int (iI a2)), (3, .int (iI a3)), (5, .int (iI a5))] [.int (iI s0)] := by
        intro a5 s0
        unfold m5_greatestAlike_j78
        refine gj_iconst C dX5_greatestAlike_78 ?_
        exact gj_to [0, 1, 2, 3, 4] (J79 a5 s0 0) rfl
      unfold m5_greatestAlike_b18
      refine gj_iload C dX5_greatestAlike_18 5 rfl ?_
      refine gj_aload_n C dX5_greatestAlike_20 0 rfl ?_
      refine mj_getI (kf := 29) C K dX5_greatestAlike_21 (by decide) (by decide) rfl q1900 rfl (fun v21 => ?_)
      refine gj_icmp_ge (tgt := 88) C dX5_greatestAlike_24 (by decide) rfl rfl (fun h24 => gj_neg h24 ?_) (fun h24 => gj_pos h24 ?_)
      · exact gj_to [0, 1, 2, 3, 4] (J88 a2 a3 a4) rfl
      · refine gj_aload_n C dX5_greatestAlike_27 0 rfl ?_
        refine mj_getR (kf := 41) (j := 24) C K dX5_greatestAlike_28 (by decide) (by decide) rfl (by decide) q1912 rfl ?_
        refine gj_iload_n C dX5_greatestAlike_31 3 rfl ?_
        refine mj_zald (j := 24) C K dX5_greatestAlike_32 (by decide) rfl (fun v32 => ?_)
        refine gj_if_eq (tgt := 88) C dX5_greatestAlike_33 (by decide) (fun h33 => gj_pos h33 ?_) (fun h33 => gj_neg h33 ?_)
        · exact gj_to [0, 1, 2, 3, 4] (J88 a2 a3 a4) rfl
        · refine gj_iload C dX5_greatestAlike_36 4 rfl ?_
          refine gj_aload_n C dX5_greatestAlike_38 0 rfl ?_
          refine mj_getR (kf := 41) (j := 24) C K dX5_greatestAlike_39 (by decide) (by decide) rfl (by decide) q1912 rfl ?_
          refine gj_iload C dX5_greatestAlike_42 5 rfl ?_
          refine mj_zald (j := 24) C K dX5_greatestAlike_44 (by decide) rfl (fun v44 => ?_)
          refine gj_if_eq (tgt := 78) C dX5_greatestAlike_45 (by decide) (fun h45 => gj_pos h45 ?_) (fun h45 => gj_neg h45 ?_)
          · exact gj_to [0, 1, 2, 3, 5] (J78 a5 a4) rfl
          · refine gj_aload_n C dX5_greatestAlike_48 0 rfl ?_
            refine mj_getR (kf := 40) (j := 23) C K dX5_greatestAlike_49 (by decide) (by decide) rfl (by decide) q1911 rfl ?_
            refine gj_bipush C dX5_greatestAlike_52 rfl ?_
            refine gj_iload C dX5_greatestAlike_54 5 rfl ?_
            refine gj_imul C dX5_greatestAlike_56 ?_
            refine gj_iload_n C dX5_greatestAlike_57 1 rfl ?_
            refine gj_iadd C dX5_greatestAlike_58 ?_
            refine mj_iald (j := 23) C K dX5_greatestAlike_59 (by decide) rfl (fun v59 => ?_)
            refine gj_aload_n C dX5_greatestAlike_60 0 rfl ?_
            refine mj_getR (kf := 40) (j := 23) C K dX5_greatestAlike_61 (by decide) (by decide) rfl (by decide) q1911 rfl ?_
            refine gj_bipush C dX5_greatestAlike_64 rfl ?_
            refine gj_iload_n C dX5_greatestAlike_66 3 rfl ?_
            refine gj_imul C dX5_greatestAlike_67 ?_
            refine gj_iload_n C dX5_greatestAlike_68 1 rfl ?_
            refine gj_iadd C dX5_greatestAlike_69 ?_
            refine mj_iald (j := 23) C K dX5_greatestAlike_70 (by decide) rfl (fun v70 => ?_)
            refine gj_icmp_ne (tgt := 78) C dX5_greatestAlike_71 (by decide) rfl rfl (fun h71 => gj_neg h71 ?_) (fun h71 => gj_pos h71 ?_)
            · exact gj_to [0, 1, 2, 3, 5] (J78 a5 a4) rfl
            · refine gj_iconst C dX5_greatestAlike_74 ?_
              refine gj_goto (tgt := 79) C dX5_greatestAlike_75 (by decide) ?_
              exact gj_to [0, 1, 2, 3, 5] (J79 a5 a4 1) rfl
    unfold m5_greatestAlike_b4
    refine gj_iload_n C dX5_greatestAlike_4 3 rfl ?_
    refine gj_aload_n C dX5_greatestAlike_5 0 rfl ?_
    refine mj_getI (kf := 29) C K dX5_greatestAlike_6 (by decide) (by decide) rfl q1900 rfl (fun v6 => ?_)
    refine gj_icmp_ge (tgt := 107) C dX5_greatestAlike_9 (by decide) rfl rfl (fun h9 => gj_neg h9 ?_) (fun h9 => gj_pos h9 ?_)
    · refine gj_iload_n C dX5_greatestAlike_107 2 rfl ?_
      refine gj_nrmI ?_
      exact mj_iret C hQ hr dX5_greatestAlike_108
    · refine gj_iconst C dX5_greatestAlike_12 ?_
      refine gj_istore (L' := [(4, _), (0, _), (1, _), (2, _), (3, _)]) C dX5_greatestAlike_13 (by decide) rfl ?_
      refine gj_iconst C dX5_greatestAlike_15 ?_
      refine gj_istore (L' := [(5, _), (4, _), (0, _), (1, _), (2, _), (3, _)]) C dX5_greatestAlike_16 (by decide) rfl ?_
      exact gj_to [2, 3, 4, 5, 1, 0] (J18 a2 a3 0 0) rfl
  unfold m5_greatestAlike
  refine gj_iconst C dX5_greatestAlike_0 ?_
  refine gj_istore_n (L' := [(2, _), (0, _), (1, _)]) C dX5_greatestAlike_1 (by decide) rfl ?_
  refine gj_iconst C dX5_greatestAlike_2 ?_
  refine gj_istore_n (L' := [(3, _), (2, _), (0, _), (1, _)]) C dX5_greatestAlike_3 (by decide) rfl ?_
  exact gj_to [2, 3, 1, 0] (J4 a1 0 0) rfl
def m5_ask_b32 (a3 : Int) (bk18 : (Int × Int × Int) → MM Int) (a1 a2 a4 : Int) (bk32 : (Int × Int × Int) → MM Int) : MM Int :=
  pbnd (m5_people) fun v35 =>
  pite (w32 a4 < w32 v35) (
    pbnd (m5_greatestAlike a4) fun v44 =>
    plet (if w32 v44 < w32 a2 then 1 else if w32 v44 = w32 a2 then if w32 a1 < 0 then 0 else if w32 ((((8 * a4)) + a3)) < w32 a1 then 1 else 0 else 0) fun d81 =>
    plet (if w32 d81 = 0 then a1 else ((8 * a4)) + a3) fun d99 =>
    plet (if w32 d81 = 0 then a2 else v44) fun d111 =>
    bk32 (d99, d111, a4 + 1)) (
    bk18 (a1, a2, a3 + 1))
def m5_ask_l32 (a1 a2 a3 a4 : Int) (bk18 : (Int × Int × Int) → MM Int) : MM Int :=
  ploop (fun (s : (Int × Int × Int)) bk32 => m5_ask_b32 a3 bk18 s.1 s.2.1 s.2.2 bk32) (a1, a2, a4)
def m5_ask_b18 (a1 a2 a3 : Int) (bk18 : (Int × Int × Int) → MM Int) : MM Int :=
  pite (7 < w32 a3) (
    pret (w32 a1)) (
    pbnd (m5_findPurses a3) fun _ =>
    m5_ask_l32 a1 a2 a3 0 bk18)
def m5_ask_l18 (a1 a2 a3 : Int) : MM Int :=
  ploop (fun (s : (Int × Int × Int)) bk18 => m5_ask_b18 s.1 s.2.1 s.2.2 bk18) (a1, a2, a3)
def m5_ask : MM Int :=
  pbnd (mput 0 0) fun _ =>
  pbnd (m5_findFitting) fun _ =>
  pbnd (mget 42) fun v12 =>
  m5_ask_l18 (-1) v12 1
set_option maxHeartbeats 4000000 in
set_option maxRecDepth 100000 in
theorem met5_ask (l : Launch) (g : MG) : MMet l g yX5_ask cX5_ask 7 (Option.some Jvm.ClassFile.FieldType.int) (6) [.ref (g.2.2)] (m5_ask) rvI := by
  refine mj_start (by decide +kernel) rfl (Nat.le_of_ble_eq_true rfl) (fun X Q hl C K hQ hR hr => ?_)
  subst hl
  show GJ X 7 (mWo g (cx_s X).heap) Q (m5_ask) 0 [(0, .ref (g.2.2))] []
  have J18 : ∀ (a1 a2 a3 : Int), GJ X 7 (mWo g (cx_s X).heap) Q (m5_ask_l18 a1 a2 a3) 18 [(0, .ref (g.2.2)), (1, .int (iI a1)), (2, .int (iI a2)), (3, .int (iI a3))] [] := by
    intro a1 a2 a3
    unfold m5_ask_l18
    refine gj_loop (fun (s : (Int × Int × Int)) => [(0, .ref (g.2.2)), (1, .int (iI (s.1))), (2, .int (iI (s.2.1))), (3, .int (iI (s.2.2)))]) (a1, a2, a3) (fun bk18 hb18 s => ?_)
    obtain ⟨a1, a2, a3⟩ := s
    show GJ X 7 (mWo g (cx_s X).heap) Q (m5_ask_b18 a1 a2 a3 bk18) 18 [(0, .ref (g.2.2)), (1, .int (iI a1)), (2, .int (iI a2)), (3, .int (iI a3))] []
    have J32 : ∀ (a1 a2 a3 a4 : Int), GJ X 7 (mWo g (cx_s X).heap) Q (m5_ask_l32 a1 a2 a3 a4 bk18) 32 [(0, .ref (g.2.2)), (1, .int (iI a1)), (2, .int (iI a2)), (3, .int (iI a3)), (4, .int (iI a4))] [] := by
      intro a1 a2 a3 a4
      unfold m5_ask_l32
      refine gj_loop (fun (s : (Int × Int × Int)) => [(0, .ref (g.2.2)), (1, .int (iI (s.1))), (2, .int (iI (s.2.1))), (3, .int (iI a3)), (4, .int (iI (s.2.2)))]) (a1, a2, a4) (fun bk32 hb32 s => ?_)
      obtain ⟨a1, a2, a4⟩ := s
      show GJ X 7 (mWo g (cx_s X).heap) Q (m5_ask_b32 a3 bk18 a1 a2 a4 bk32) 32 [(0, .ref (g.2.2)), (1, .int (iI a1)), (2, .int (iI a2)), (3, .int (iI a3)), (4, .int (iI a4))] []
      unfold m5_ask_b32
      refine gj_iload C dX5_ask_32 4 rfl ?_
      refine gj_aload_n C dX5_ask_34 0 rfl ?_
      refine mj_callVI (As := []) (rest := [.int (iI a4)]) C K dX5_ask_35 (met5_people (cx_l X) g) (lw_V q1851 q1853 qs55 q134 q1854) hy5_people hR (Nat.le_of_ble_eq_true rfl) (by decide) rfl rfl (Nat.le_of_ble_eq_true rfl) (fun v35 => ?_)
      refine gj_icmp_ge (tgt := 118) C dX5_ask_38 (by decide) rfl rfl (fun h38 => gj_neg h38 ?_) (fun h38 => gj_pos h38 ?_)
      · refine gj_iinc (L' := [(3, _), (0, _), (1, _), (2, _), (4, _)]) C dX5_ask_118 3 rfl (by decide) rfl ?_
        refine gj_goto (tgt := 18) C dX5_ask_121 (by decide) ?_
        exact gj_to [1, 2, 3, 0] (hb18 (a1, a2, a3 + 1)) rfl
      · refine gj_aload_n C dX5_ask_41 0 rfl ?_
        refine gj_iload C dX5_ask_42 4 rfl ?_
        refine mj_callVI (As := [.int (iI a4)]) (rest := []) C K dX5_ask_44 (met5_greatestAlike (cx_l X) g a4) (lw_V q2363 q2365 qs120 q134 q2366) hy5_greatestAlike hR (Nat.le_of_ble_eq_true rfl) (by decide) rfl rfl (Nat.zero_le _) (fun v44 => ?_)
        refine gj_istore (L' := [(5, _), (0, _), (1, _), (2, _), (3, _), (4, _)]) C dX5_ask_47 (by decide) rfl ?_
        refine gj_iload C dX5_ask_49 0 rfl ?_
        refine gj_iload_n C dX5_ask_51 3 rfl ?_
        refine gj_dia (J := 81) (L := [(5, .int (iI v44)), (0, .ref (g.2.2)), (1, .int (iI a1)), (2, .int (iI a2)), (3, .int (iI a3)), (4, .int (iI a4))]) (st := []) (fun d81 => ?_) (fun t hJ => ?_)
        · skip
          refine gj_istore (L' := [(6, _), (5, _), (0, _), (1, _), (2, _), (3, _), (4, _)]) C dX5_ask_81 (by decide) rfl ?_
          refine gj_iload C dX5_ask_83 0 rfl ?_
          refine gj_dia (J := 99) (L := [(6, .int (iI d81)), (5, .int (iI v44)), (0, .ref (g.2.2)), (1, .int (iI a1)), (2, .int (iI a2)), (3, .int (iI a3)), (4, .int (iI a4))]) (st := []) (fun d99 => ?_) (fun t hJ => ?_)
          · skip
            refine gj_istore_n (L' := [(1, _), (6, _), (5, _), (0, _), (2, _), (3, _), (4, _)]) C dX5_ask_99 (by decide) rfl ?_
            refine gj_iload C dX5_ask_100 1 rfl ?_
            refine gj_dia (J := 111) (L := [(1, .int (iI d99)), (6, .int (iI d81)), (5, .int (iI v44)), (0, .ref (g.2.2)), (2, .int (iI a2)), (3, .int (iI a3)), (4, .int (iI a4))]) (st := []) (fun d111 => ?_) (fun t hJ => ?_)
            · skip
              refine gj_istore_n (L' := [(2, _), (1, _), (6, _), (5, _), (0, _), (3, _), (4, _)]) C dX5_ask_111 (by decide) rfl ?_
              refine gj_iinc (L' := [(4, _), (2, _), (1, _), (6, _), (5, _), (0, _), (3, _)]) C dX5_ask_112 6 rfl (by decide) rfl ?_
              refine gj_goto (tgt := 32) C dX5_ask_115 (by decide) ?_
              exact gj_to [5, 2, 1, 6, 0] (hb32 (d99, d111, a4 + 1)) rfl
            · refine gj_if_eq (tgt := 110) C dX5_ask_102 (by decide) (fun h102 => ?_) (fun h102 => ?_)
              · refine gj_iload_n C dX5_ask_110 4 rfl ?_
                exact (by rw [if_pos h102] at hJ; exact hJ)
              · refine gj_iload C dX5_ask_105 2 rfl ?_
                refine gj_goto (tgt := 111) C dX5_ask_107 (by decide) ?_
                exact (by rw [if_neg h102] at hJ; exact hJ)
          · refine gj_if_eq (tgt := 98) C dX5_ask_85 (by decide) (fun h85 => ?_) (fun h85 => ?_)
            · refine gj_iload_n C dX5_ask_98 3 rfl ?_
              exact (by rw [if_pos h85] at hJ; exact hJ)
            · refine gj_bipush C dX5_ask_88 rfl ?_
              refine gj_iload C dX5_ask_90 6 rfl ?_
              refine gj_imul C dX5_ask_92 ?_
              refine gj_iload_n C dX5_ask_93 5 rfl ?_
              refine gj_iadd C dX5_ask_94 ?_
              refine gj_goto (tgt := 99) C dX5_ask_95 (by decide) ?_
              exact (by rw [if_neg h85] at hJ; exact hJ)
        · refine gj_icmp_lt (tgt := 76) C dX5_ask_52 (by decide) rfl rfl (fun h52 => ?_) (fun h52 => ?_)
          · refine gj_iconst C dX5_ask_76 ?_
            refine gj_goto (tgt := 81) C dX5_ask_77 (by decide) ?_
            exact (by rw [if_pos h52] at hJ; exact hJ)
          · refine gj_iload C dX5_ask_55 0 rfl ?_
            refine gj_iload_n C dX5_ask_57 3 rfl ?_
            refine gj_icmp_ne (tgt := 80) C dX5_ask_58 (by decide) rfl rfl (fun h58 => ?_) (fun h58 => ?_)
            · refine gj_iconst C dX5_ask_80 ?_
              exact (by rw [if_neg h52, if_neg h58] at hJ; exact hJ)
            · refine gj_iload_n C dX5_ask_61 2 rfl ?_
              refine gj_if_lt (tgt := 80) C dX5_ask_62 (by decide) (fun h62 => ?_) (fun h62 => ?_)
              · refine gj_iconst C dX5_ask_80 ?_
                exact (by rw [if_neg h52, if_pos h58, if_pos h62] at hJ; exact hJ)
              · refine gj_bipush C dX5_ask_65 rfl ?_
                refine gj_iload C dX5_ask_67 5 rfl ?_
                refine gj_imul C dX5_ask_69 ?_
                refine gj_iload_n C dX5_ask_70 4 rfl ?_
                refine gj_iadd C dX5_ask_71 ?_
                refine gj_iload_n C dX5_ask_72 2 rfl ?_
                refine gj_icmp_ge (tgt := 80) C dX5_ask_73 (by decide) rfl rfl (fun h73 => ?_) (fun h73 => ?_)
                · refine gj_iconst C dX5_ask_80 ?_
                  exact (by rw [if_neg h52, if_pos h58, if_neg h62, if_neg h73] at hJ; exact hJ)
                · refine gj_iconst C dX5_ask_76 ?_
                  refine gj_goto (tgt := 81) C dX5_ask_77 (by decide) ?_
                  exact (by rw [if_neg h52, if_pos h58, if_neg h62, if_pos h73] at hJ; exact hJ)
    unfold m5_ask_b18
    refine gj_iload_n C dX5_ask_18 3 rfl ?_
    refine gj_bipush C dX5_ask_19 rfl ?_
    refine gj_icmp_gt (tgt := 124) (b' := 7) C dX5_ask_21 (by decide) rfl (by decide) (fun h21 => gj_pos h21 ?_) (fun h21 => gj_neg h21 ?_)
    · refine gj_iload_n C dX5_ask_124 1 rfl ?_
      refine gj_nrmI ?_
      exact mj_iret C hQ hr dX5_ask_125
    · refine gj_aload_n C dX5_ask_24 0 rfl ?_
      refine gj_iload_n C dX5_ask_25 3 rfl ?_
      refine mj_callVV (As := [.int (iI a3)]) (rest := []) C K dX5_ask_26 (met5_findPurses (cx_l X) g a3) (lw_V q2359 q2361 qs119 q134 q2362) hy5_findPurses hR (Nat.le_of_ble_eq_true rfl) (by decide) rfl rfl (Nat.zero_le _) ?_
      refine gj_iconst C dX5_ask_29 ?_
      refine gj_istore (L' := [(4, _), (0, _), (1, _), (2, _), (3, _)]) C dX5_ask_30 (by decide) rfl ?_
      exact gj_to [1, 2, 3, 4, 0] (J32 a1 a2 a3 0) rfl
  unfold m5_ask
  refine gj_aload_n C dX5_ask_0 0 rfl ?_
  refine gj_iconst C dX5_ask_1 ?_
  refine mj_putI (kf := 0) C K dX5_ask_2 (by decide) (by decide) rfl q1871 rfl rfl (by decide +kernel) ?_
  refine gj_aload_n C dX5_ask_5 0 rfl ?_
  refine mj_callVV (As := []) (rest := []) C K dX5_ask_6 (met5_findFitting (cx_l X) g) (lw_V q2343 q2345 qs117 q134 q2346) hy5_findFitting hR (Nat.le_of_ble_eq_true rfl) (by decide) rfl rfl (Nat.zero_le _) ?_
  refine gj_iconst C dX5_ask_9 ?_
  refine gj_istore_n (L' := [(1, _), (0, _)]) C dX5_ask_10 (by decide) rfl ?_
  refine gj_aload_n C dX5_ask_11 1 rfl ?_
  refine mj_getI (kf := 42) C K dX5_ask_12 (by decide) (by decide) rfl q1913 rfl (fun v12 => ?_)
  refine gj_istore_n (L' := [(2, _), (1, _), (0, _)]) C dX5_ask_15 (by decide) rfl ?_
  refine gj_iconst C dX5_ask_16 ?_
  refine gj_istore_n (L' := [(3, _), (2, _), (1, _), (0, _)]) C dX5_ask_17 (by decide) rfl ?_
  exact gj_to [3, 2, 1, 0] (J18 (-1) v12 1) rfl
def m5_caresFor (a0 a1 a2 a3 a4 : Int) : MM Int :=
  plet (if w32 a3 < w32 a4 then a3 else a4) fun d17 =>
  pret (w32 (((((a0 * a4)) + ((a1 * d17)))) - ((((a2 * a3)) * a3))))
set_option maxHeartbeats 4000000 in
set_option maxRecDepth 100000 in
theorem met5_caresFor (l : Launch) (g : MG) (a0 a1 a2 a3 a4 : Int) : MMet l g yX5_caresFor cX5_caresFor 5 (Option.some Jvm.ClassFile.FieldType.int) (0) [.int (iI a0), .int (iI a1), .int (iI a2), .int (iI a3), .int (iI a4)] (m5_caresFor a0 a1 a2 a3 a4) rvI := by
  refine mj_start (by decide +kernel) rfl (Nat.le_of_ble_eq_true rfl) (fun X Q hl C K hQ hR hr => ?_)
  subst hl
  show GJ X 5 (mWo g (cx_s X).heap) Q (m5_caresFor a0 a1 a2 a3 a4) 0 [(0, .int (iI a0)), (1, .int (iI a1)), (2, .int (iI a2)), (3, .int (iI a3)), (4, .int (iI a4))] []
  unfold m5_caresFor
  refine gj_iload_n C dX5_caresFor_0 0 rfl ?_
  refine gj_iload C dX5_caresFor_1 4 rfl ?_
  refine gj_imul C dX5_caresFor_3 ?_
  refine gj_iload_n C dX5_caresFor_4 1 rfl ?_
  refine gj_iload_n C dX5_caresFor_5 3 rfl ?_
  refine gj_iload C dX5_caresFor_6 4 rfl ?_
  refine gj_dia (J := 17) (L := [(0, .int (iI a0)), (1, .int (iI a1)), (2, .int (iI a2)), (3, .int (iI a3)), (4, .int (iI a4))]) (st := [.int (iI a1), .int (iI ((a0 * a4)))]) (fun d17 => ?_) (fun t hJ => ?_)
  · skip
    refine gj_imul C dX5_caresFor_17 ?_
    refine gj_iadd C dX5_caresFor_18 ?_
    refine gj_iload_n C dX5_caresFor_19 2 rfl ?_
    refine gj_iload_n C dX5_caresFor_20 3 rfl ?_
    refine gj_imul C dX5_caresFor_21 ?_
    refine gj_iload_n C dX5_caresFor_22 3 rfl ?_
    refine gj_imul C dX5_caresFor_23 ?_
    refine gj_isub C dX5_caresFor_24 ?_
    refine gj_nrmI ?_
    exact mj_iret C hQ hr dX5_caresFor_25
  · refine gj_icmp_ge (tgt := 15) C dX5_caresFor_8 (by decide) rfl rfl (fun h8 => ?_) (fun h8 => ?_)
    · refine gj_iload C dX5_caresFor_15 4 rfl ?_
      exact (by rw [if_neg h8] at hJ; exact hJ)
    · refine gj_iload_n C dX5_caresFor_11 3 rfl ?_
      refine gj_goto (tgt := 17) C dX5_caresFor_12 (by decide) ?_
      exact (by rw [if_pos h8] at hJ; exact hJ)
def m5_rests_j203 (a4 a5 a6 a7 : Int) : MM Int :=
  plet (if w32 a5 = 0 then 1 else if w32 a4 < 0 then 0 else if w32 a7 < 0 then 1 else 0) fun d224 =>
  pbnd (mput 0 (w32 d224)) fun _ =>
  pbnd (mget 0) fun v228 =>
  plet (if 0 < w32 v228 then 0 else if w32 a4 < 0 then a6 else a7) fun d250 =>
  pret (w32 d250)
def m5_rests_j147 (a1 a2 a3 a4 a5 a6 a7 a8 a9 a10 a12 s0 : Int) (bk52 : (Int × Int × Int) → MM Int) (bk84 : (Int × Int) → MM Int) : MM Int :=
  bk84 (s0, a12 + 1)
def m5_rests_j146 (a1 a2 a3 a4 a5 a6 a7 a8 a9 a10 a12 : Int) (bk52 : (Int × Int × Int) → MM Int) (bk84 : (Int × Int) → MM Int) : MM Int :=
  m5_rests_j147 a1 a2 a3 a4 a5 a6 a7 a8 a9 a10 a12 0 bk52 bk84
def m5_rests_b84 (a1 a2 a3 a4 a5 a6 a7 a8 a9 a10 : Int) (bk52 : (Int × Int × Int) → MM Int) (a11 a12 : Int) (bk84 : (Int × Int) → MM Int) : MM Int :=
  pite (w32 a12 < 6) (
    pite (w32 a11 = 0) (
      m5_rests_j146 a1 a2 a3 a4 a5 a6 a7 a8 a9 a10 a12 bk52 bk84) (
      pbnd (m5_caresFor a1 a2 a3 a12 a10) fun v103 =>
      pbnd (m5_caresFor a1 a2 a3 a9 a10) fun v113 =>
      pite (w32 v113 < w32 v103) (
        m5_rests_j146 a1 a2 a3 a4 a5 a6 a7 a8 a9 a10 a12 bk52 bk84) (
        pbnd (m5_caresFor a1 a2 a3 a12 a9) fun v126 =>
        pbnd (m5_caresFor a1 a2 a3 a10 a9) fun v136 =>
        pite (w32 v136 < w32 v126) (
          m5_rests_j146 a1 a2 a3 a4 a5 a6 a7 a8 a9 a10 a12 bk52 bk84) (
          m5_rests_j147 a1 a2 a3 a4 a5 a6 a7 a8 a9 a10 a12 1 bk52 bk84)))) (
    plet (if w32 a11 = 0 then a7 else if w32 a6 = w32 a4 then ((10 * a9)) + a10 else a7) fun d180 =>
    plet (if w32 a11 = 0 then 0 else 1) fun d194 =>
    plet (a6 + d194) fun x195 =>
    bk52 (x195, d180, a8 + 1))
def m5_rests_l84 (a1 a2 a3 a4 a5 a6 a7 a8 a9 a10 a11 a12 : Int) (bk52 : (Int × Int × Int) → MM Int) : MM Int :=
  ploop (fun (s : (Int × Int)) bk84 => m5_rests_b84 a1 a2 a3 a4 a5 a6 a7 a8 a9 a10 bk52 s.1 s.2 bk84) (a11, a12)
def m5_rests_b52 (a1 a2 a3 a4 a5 : Int) (a6 a7 a8 : Int) (bk52 : (Int × Int × Int) → MM Int) : MM Int :=
  pite (w32 a8 < 36) (
    pite (w32 a5 = 0) (
      m5_rests_j203 a4 a5 a6 a7) (
      pbnd (pnz 6) fun _ =>
      plet (zdiv a8 6) fun x69 =>
      pbnd (pnz 6) fun _ =>
      plet (zrem a8 6) fun x76 =>
      m5_rests_l84 a1 a2 a3 a4 a5 a6 a7 a8 x69 x76 1 0 bk52)) (
    m5_rests_j203 a4 a5 a6 a7)
def m5_rests_l52 (a1 a2 a3 a4 a5 a6 a7 a8 : Int) : MM Int :=
  ploop (fun (s : (Int × Int × Int)) bk52 => m5_rests_b52 a1 a2 a3 a4 a5 s.1 s.2.1 s.2.2 bk52) (a6, a7, a8)
def m5_rests_j41 (a1 a2 a3 a4 s0 : Int) : MM Int :=
  m5_rests_l52 a1 a2 a3 a4 s0 0 (-1) 0
def m5_rests_j40 (a1 a2 a3 a4 : Int) : MM Int :=
  m5_rests_j41 a1 a2 a3 a4 0
def m5_rests (a1 a2 a3 a4 : Int) : MM Int :=
  pbnd (m5_within a1 0 9) fun v4 =>
  pite (w32 v4 = 0) (
    m5_rests_j40 a1 a2 a3 a4) (
    pbnd (m5_within a2 0 9) fun v14 =>
    pite (w32 v14 = 0) (
      m5_rests_j40 a1 a2 a3 a4) (
      pbnd (m5_within a3 0 9) fun v24 =>
      pite (w32 v24 = 0) (
        m5_rests_j40 a1 a2 a3 a4) (
        pite (w32 a4 < (-1)) (
          m5_rests_j40 a1 a2 a3 a4) (
          m5_rests_j41 a1 a2 a3 a4 1))))
set_option maxHeartbeats 4000000 in
set_option maxRecDepth 100000 in
theorem met5_rests (l : Launch) (g : MG) (a1 a2 a3 a4 : Int) : MMet l g yX5_rests cX5_rests 13 (Option.some Jvm.ClassFile.FieldType.int) (1) [.ref (g.2.2), .int (iI a1), .int (iI a2), .int (iI a3), .int (iI a4)] (m5_rests a1 a2 a3 a4) rvI := by
  refine mj_start (by decide +kernel) rfl (Nat.le_of_ble_eq_true rfl) (fun X Q hl C K hQ hR hr => ?_)
  subst hl
  show GJ X 13 (mWo g (cx_s X).heap) Q (m5_rests a1 a2 a3 a4) 0 [(0, .ref (g.2.2)), (1, .int (iI a1)), (2, .int (iI a2)), (3, .int (iI a3)), (4, .int (iI a4))] []
  have J203 : ∀ (a4 a5 a6 a7 : Int), GJ X 13 (mWo g (cx_s X).heap) Q (m5_rests_j203 a4 a5 a6 a7) 203 [(0, .ref (g.2.2)), (4, .int (iI a4)), (5, .int (iI a5)), (6, .int (iI a6)), (7, .int (iI a7))] [] := by
    intro a4 a5 a6 a7
    unfold m5_rests_j203
    refine gj_aload_n C dX5_rests_203 0 rfl ?_
    refine gj_iload C dX5_rests_204 2 rfl ?_
    refine gj_dia (J := 224) (L := [(0, .ref (g.2.2)), (4, .int (iI a4)), (5, .int (iI a5)), (6, .int (iI a6)), (7, .int (iI a7))]) (st := [.ref (g.2.2)]) (fun d224 => ?_) (fun t hJ => ?_)
    · skip
      refine gj_nrmI ?_
      refine mj_putI (kf := 0) C K dX5_rests_224 (by decide) (by decide) rfl q1871 rfl rfl (by decide +kernel) ?_
      refine gj_aload_n C dX5_rests_227 0 rfl ?_
      refine mj_getI (kf := 0) C K dX5_rests_228 (by decide) (by decide) rfl q1871 rfl (fun v228 => ?_)
      refine gj_dia (J := 250) (L := [(0, .ref (g.2.2)), (4, .int (iI a4)), (5, .int (iI a5)), (6, .int (iI a6)), (7, .int (iI a7))]) (st := []) (fun d250 => ?_) (fun t hJ => ?_)
      · skip
        refine gj_nrmI ?_
        exact mj_iret C hQ hr dX5_rests_250
      · refine gj_if_le (tgt := 238) C dX5_rests_231 (by decide) (fun h231 => ?_) (fun h231 => ?_)
        · refine gj_iload C dX5_rests_238 1 rfl ?_
          refine gj_if_ge (tgt := 248) C dX5_rests_240 (by decide) (fun h240 => ?_) (fun h240 => ?_)
          · refine gj_iload C dX5_rests_248 4 rfl ?_
            exact (by rw [if_neg h231, if_neg h240] at hJ; exact hJ)
          · refine gj_iload C dX5_rests_243 3 rfl ?_
            refine gj_goto (tgt := 250) C dX5_rests_245 (by decide) ?_
            exact (by rw [if_neg h231, if_pos h240] at hJ; exact hJ)
        · refine gj_iconst C dX5_rests_234 ?_
          refine gj_goto (tgt := 250) C dX5_rests_235 (by decide) ?_
          exact (by rw [if_pos h231] at hJ; exact hJ)
    · refine gj_if_eq (tgt := 223) C dX5_rests_206 (by decide) (fun h206 => ?_) (fun h206 => ?_)
      · refine gj_iconst C dX5_rests_223 ?_
        exact (by rw [if_pos h206] at hJ; exact hJ)
      · refine gj_iload C dX5_rests_209 1 rfl ?_
        refine gj_if_lt (tgt := 219) C dX5_rests_211 (by decide) (fun h211 => ?_) (fun h211 => ?_)
        · refine gj_iconst C dX5_rests_219 ?_
          refine gj_goto (tgt := 224) C dX5_rests_220 (by decide) ?_
          exact (by rw [if_neg h206, if_pos h211] at hJ; exact hJ)
        · refine gj_iload C dX5_rests_214 4 rfl ?_
          refine gj_if_lt (tgt := 223) C dX5_rests_216 (by decide) (fun h216 => ?_) (fun h216 => ?_)
          · refine gj_iconst C dX5_rests_223 ?_
            exact (by rw [if_neg h206, if_neg h211, if_pos h216] at hJ; exact hJ)
          · refine gj_iconst C dX5_rests_219 ?_
            refine gj_goto (tgt := 224) C dX5_rests_220 (by decide) ?_
            exact (by rw [if_neg h206, if_neg h211, if_neg h216] at hJ; exact hJ)
  have J52 : ∀ (a1 a2 a3 a4 a5 a6 a7 a8 : Int), GJ X 13 (mWo g (cx_s X).heap) Q (m5_rests_l52 a1 a2 a3 a4 a5 a6 a7 a8) 52 [(0, .ref (g.2.2)), (1, .int (iI a1)), (2, .int (iI a2)), (3, .int (iI a3)), (4, .int (iI a4)), (5, .int (iI a5)), (6, .int (iI a6)), (7, .int (iI a7)), (8, .int (iI a8))] [] := by
    intro a1 a2 a3 a4 a5 a6 a7 a8
    unfold m5_rests_l52
    refine gj_loop (fun (s : (Int × Int × Int)) => [(0, .ref (g.2.2)), (1, .int (iI a1)), (2, .int (iI a2)), (3, .int (iI a3)), (4, .int (iI a4)), (5, .int (iI a5)), (6, .int (iI (s.1))), (7, .int (iI (s.2.1))), (8, .int (iI (s.2.2)))]) (a6, a7, a8) (fun bk52 hb52 s => ?_)
    obtain ⟨a6, a7, a8⟩ := s
    show GJ X 13 (mWo g (cx_s X).heap) Q (m5_rests_b52 a1 a2 a3 a4 a5 a6 a7 a8 bk52) 52 [(0, .ref (g.2.2)), (1, .int (iI a1)), (2, .int (iI a2)), (3, .int (iI a3)), (4, .int (iI a4)), (5, .int (iI a5)), (6, .int (iI a6)), (7, .int (iI a7)), (8, .int (iI a8))] []
    have J84 : ∀ (a6 a7 a8 a9 a10 a11 a12 : Int), GJ X 13 (mWo g (cx_s X).heap) Q (m5_rests_l84 a1 a2 a3 a4 a5 a6 a7 a8 a9 a10 a11 a12 bk52) 84 [(0, .ref (g.2.2)), (1, .int (iI a1)), (2, .int (iI a2)), (3, .int (iI a3)), (4, .int (iI a4)), (5, .int (iI a5)), (6, .int (iI a6)), (7, .int (iI a7)), (8, .int (iI a8)), (9, .int (iI a9)), (10, .int (iI a10)), (11, .int (iI a11)), (12, .int (iI a12))] [] := by
      intro a6 a7 a8 a9 a10 a11 a12
      unfold m5_rests_l84
      refine gj_loop (fun (s : (Int × Int)) => [(0, .ref (g.2.2)), (1, .int (iI a1)), (2, .int (iI a2)), (3, .int (iI a3)), (4, .int (iI a4)), (5, .int (iI a5)), (6, .int (iI a6)), (7, .int (iI a7)), (8, .int (iI a8)), (9, .int (iI a9)), (10, .int (iI a10)), (11, .int (iI (s.1))), (12, .int (iI (s.2)))]) (a11, a12) (fun bk84 hb84 s => ?_)
      obtain ⟨a11, a12⟩ := s
      show GJ X 13 (mWo g (cx_s X).heap) Q (m5_rests_b84 a1 a2 a3 a4 a5 a6 a7 a8 a9 a10 bk52 a11 a12 bk84) 84 [(0, .ref (g.2.2)), (1, .int (iI a1)), (2, .int (iI a2)), (3, .int (iI a3)), (4, .int (iI a4)), (5, .int (iI a5)), (6, .int (iI a6)), (7, .int (iI a7)), (8, .int (iI a8)), (9, .int (iI a9)), (10, .int (iI a10)), (11, .int (iI a11)), (12, .int (iI a12))] []
      have J147 : ∀ (a12 s0 : Int), GJ X 13 (mWo g (cx_s X).heap) Q (m5_rests_j147 a1 a2 a3 a4 a5 a6 a7 a8 a9 a10 a12 s0 bk52 bk84) 147 [(0, .ref (g.2.2)), (1, .int (iI a1)), (2, .int (iI a2)), (3, .int (iI a3)), (4, .int (iI a4)), (5, .int (iI a5)), (6, .int (iI a6)), (7, .int (iI a7)), (8, .int (iI a8)), (9, .int (iI a9)), (10, .int (iI a10)), (12, .int (iI a12))] [.int (iI s0)] := by
        intro a12 s0
        unfold m5_rests_j147
        refine gj_istore (L' := [(11, _), (0, _), (1, _), (2, _), (3, _), (4, _), (5, _), (6, _), (7, _), (8, _), (9, _), (10, _), (12, _)]) C dX5_rests_147 (by decide) rfl ?_
        refine gj_iinc (L' := [(12, _), (11, _), (0, _), (1, _), (2, _), (3, _), (4, _), (5, _), (6, _), (7, _), (8, _), (9, _), (10, _)]) C dX5_rests_149 12 rfl (by decide) rfl ?_
        refine gj_goto (tgt := 84) C dX5_rests_152 (by decide) ?_
        exact gj_to [2, 3, 4, 5, 6, 7, 8, 9, 10, 11, 12, 1, 0] (hb84 (s0, a12 + 1)) rfl
      have J146 : ∀ (a12 : Int), GJ X 13 (mWo g (cx_s X).heap) Q (m5_rests_j146 a1 a2 a3 a4 a5 a6 a7 a8 a9 a10 a12 bk52 bk84) 146 [(0, .ref (g.2.2)), (1, .int (iI a1)), (2, .int (iI a2)), (3, .int (iI a3)), (4, .int (iI a4)), (5, .int (iI a5)), (6, .int (iI a6)), (7, .int (iI a7)), (8, .int (iI a8)), (9, .int (iI a9)), (10, .int (iI a10)), (12, .int (iI a12))] [] := by
        intro a12
        unfold m5_rests_j146
        refine gj_iconst C dX5_rests_146 ?_
        exact gj_to [0, 1, 2, 3, 4, 5, 6, 7, 8, 9, 10, 11] (J147 a12 0) rfl
      unfold m5_rests_b84
      refine gj_iload C dX5_rests_84 12 rfl ?_
      refine gj_bipush C dX5_rests_86 rfl ?_
      refine gj_icmp_ge (tgt := 155) (b' := 6) C dX5_rests_88 (by decide) rfl (by decide) (fun h88 => gj_neg h88 ?_) (fun h88 => gj_pos h88 ?_)
      · refine gj_iload C dX5_rests_155 11 rfl ?_
        refine gj_dia (J := 180) (L := [(0, .ref (g.2.2)), (1, .int (iI a1)), (2, .int (iI a2)), (3, .int (iI a3)), (4, .int (iI a4)), (5, .int (iI a5)), (6, .int (iI a6)), (7, .int (iI a7)), (8, .int (iI a8)), (9, .int (iI a9)), (10, .int (iI a10)), (11, .int (iI a11)), (12, .int (iI a12))]) (st := []) (fun d180 => ?_) (fun t hJ => ?_)
        · skip
          refine gj_istore (L' := [(7, _), (0, _), (1, _), (2, _), (3, _), (4, _), (5, _), (6, _), (8, _), (9, _), (10, _), (11, _), (12, _)]) C dX5_rests_180 (by decide) rfl ?_
          refine gj_iload C dX5_rests_182 7 rfl ?_
          refine gj_iload C dX5_rests_184 11 rfl ?_
          refine gj_dia (J := 194) (L := [(7, .int (iI d180)), (0, .ref (g.2.2)), (1, .int (iI a1)), (2, .int (iI a2)), (3, .int (iI a3)), (4, .int (iI a4)), (5, .int (iI a5)), (6, .int (iI a6)), (8, .int (iI a8)), (9, .int (iI a9)), (10, .int (iI a10)), (11, .int (iI a11)), (12, .int (iI a12))]) (st := [.int (iI a6)]) (fun d194 => ?_) (fun t hJ => ?_)
          · skip
            refine gj_iadd C dX5_rests_194 ?_
            refine gj_let (fun x195 => ?_)
            refine gj_istore (L' := [(6, _), (7, _), (0, _), (1, _), (2, _), (3, _), (4, _), (5, _), (8, _), (9, _), (10, _), (11, _), (12, _)]) C dX5_rests_195 (by decide) rfl ?_
            refine gj_iinc (L' := [(8, _), (6, _), (7, _), (0, _), (1, _), (2, _), (3, _), (4, _), (5, _), (9, _), (10, _), (11, _), (12, _)]) C dX5_rests_197 8 rfl (by decide) rfl ?_
            refine gj_goto (tgt := 52) C dX5_rests_200 (by decide) ?_
            exact gj_to [3, 4, 5, 6, 7, 8, 1, 2, 0] (hb52 (x195, d180, a8 + 1)) rfl
          · refine gj_if_eq (tgt := 193) C dX5_rests_186 (by decide) (fun h186 => ?_) (fun h186 => ?_)
            · refine gj_iconst C dX5_rests_193 ?_
              exact (by rw [if_pos h186] at hJ; exact hJ)
            · refine gj_iconst C dX5_rests_189 ?_
              refine gj_goto (tgt := 194) C dX5_rests_190 (by decide) ?_
              exact (by rw [if_neg h186] at hJ; exact hJ)
        · refine gj_if_eq (tgt := 178) C dX5_rests_157 (by decide) (fun h157 => ?_) (fun h157 => ?_)
          · refine gj_iload C dX5_rests_178 7 rfl ?_
            exact (by rw [if_pos h157] at hJ; exact hJ)
          · refine gj_iload C dX5_rests_160 6 rfl ?_
            refine gj_iload C dX5_rests_162 4 rfl ?_
            refine gj_icmp_ne (tgt := 178) C dX5_rests_164 (by decide) rfl rfl (fun h164 => ?_) (fun h164 => ?_)
            · refine gj_iload C dX5_rests_178 7 rfl ?_
              exact (by rw [if_neg h157, if_neg h164] at hJ; exact hJ)
            · refine gj_bipush C dX5_rests_167 rfl ?_
              refine gj_iload C dX5_rests_169 9 rfl ?_
              refine gj_imul C dX5_rests_171 ?_
              refine gj_iload C dX5_rests_172 10 rfl ?_
              refine gj_iadd C dX5_rests_174 ?_
              refine gj_goto (tgt := 180) C dX5_rests_175 (by decide) ?_
              exact (by rw [if_neg h157, if_pos h164] at hJ; exact hJ)
      · refine gj_iload C dX5_rests_91 11 rfl ?_
        refine gj_if_eq (tgt := 146) C dX5_rests_93 (by decide) (fun h93 => gj_pos h93 ?_) (fun h93 => gj_neg h93 ?_)
        · exact gj_to [0, 1, 2, 3, 4, 5, 6, 7, 8, 9, 10, 12] (J146 a12) rfl
        · refine gj_iload_n C dX5_rests_96 1 rfl ?_
          refine gj_iload_n C dX5_rests_97 2 rfl ?_
          refine gj_iload_n C dX5_rests_98 3 rfl ?_
          refine gj_iload C dX5_rests_99 12 rfl ?_
          refine gj_iload C dX5_rests_101 10 rfl ?_
          refine mj_callSI (As := [.int (iI a1), .int (iI a2), .int (iI a3), .int (iI a12), .int (iI a10)]) (rest := []) C K dX5_rests_103 (met5_caresFor (cx_l X) g a1 a2 a3 a12 a10) (lw_S q2371 q2372 q134 q2373) hy5s_caresFor hR (Nat.le_of_ble_eq_true rfl) (by decide) rfl rfl (Nat.zero_le _) (fun v103 => ?_)
          refine gj_iload_n C dX5_rests_106 1 rfl ?_
          refine gj_iload_n C dX5_rests_107 2 rfl ?_
          refine gj_iload_n C dX5_rests_108 3 rfl ?_
          refine gj_iload C dX5_rests_109 9 rfl ?_
          refine gj_iload C dX5_rests_111 10 rfl ?_
          refine mj_callSI (As := [.int (iI a1), .int (iI a2), .int (iI a3), .int (iI a9), .int (iI a10)]) (rest := [.int (iI v103)]) C K dX5_rests_113 (met5_caresFor (cx_l X) g a1 a2 a3 a9 a10) (lw_S q2371 q2372 q134 q2373) hy5s_caresFor hR (Nat.le_of_ble_eq_true rfl) (by decide) rfl rfl (Nat.le_of_ble_eq_true rfl) (fun v113 => ?_)
          refine gj_icmp_gt (tgt := 146) C dX5_rests_116 (by decide) rfl rfl (fun h116 => gj_pos h116 ?_) (fun h116 => gj_neg h116 ?_)
          · exact gj_to [0, 1, 2, 3, 4, 5, 6, 7, 8, 9, 10, 12] (J146 a12) rfl
          · refine gj_iload_n C dX5_rests_119 1 rfl ?_
            refine gj_iload_n C dX5_rests_120 2 rfl ?_
            refine gj_iload_n C dX5_rests_121 3 rfl ?_
            refine gj_iload C dX5_rests_122 12 rfl ?_
            refine gj_iload C dX5_rests_124 9 rfl ?_
            refine mj_callSI (As := [.int (iI a1), .int (iI a2), .int (iI a3), .int (iI a12), .int (iI a9)]) (rest := []) C K dX5_rests_126 (met5_caresFor (cx_l X) g a1 a2 a3 a12 a9) (lw_S q2371 q2372 q134 q2373) hy5s_caresFor hR (Nat.le_of_ble_eq_true rfl) (by decide) rfl rfl (Nat.zero_le _) (fun v126 => ?_)
            refine gj_iload_n C dX5_rests_129 1 rfl ?_
            refine gj_iload_n C dX5_rests_130 2 rfl ?_
            refine gj_iload_n C dX5_rests_131 3 rfl ?_
            refine gj_iload C dX5_rests_132 10 rfl ?_
            refine gj_iload C dX5_rests_134 9 rfl ?_
            refine mj_callSI (As := [.int (iI a1), .int (iI a2), .int (iI a3), .int (iI a10), .int (iI a9)]) (rest := [.int (iI v126)]) C K dX5_rests_136 (met5_caresFor (cx_l X) g a1 a2 a3 a10 a9) (lw_S q2371 q2372 q134 q2373) hy5s_caresFor hR (Nat.le_of_ble_eq_true rfl) (by decide) rfl rfl (Nat.le_of_ble_eq_true rfl) (fun v136 => ?_)
            refine gj_icmp_gt (tgt := 146) C dX5_rests_139 (by decide) rfl rfl (fun h139 => gj_pos h139 ?_) (fun h139 => gj_neg h139 ?_)
            · exact gj_to [0, 1, 2, 3, 4, 5, 6, 7, 8, 9, 10, 12] (J146 a12) rfl
            · refine gj_iconst C dX5_rests_142 ?_
              refine gj_goto (tgt := 147) C dX5_rests_143 (by decide) ?_
              exact gj_to [0, 1, 2, 3, 4, 5, 6, 7, 8, 9, 10, 12] (J147 a12 1) rfl
    unfold m5_rests_b52
    refine gj_iload C dX5_rests_52 8 rfl ?_
    refine gj_bipush C dX5_rests_54 rfl ?_
    refine gj_icmp_ge (tgt := 203) (b' := 36) C dX5_rests_56 (by decide) rfl (by decide) (fun h56 => gj_neg h56 ?_) (fun h56 => gj_pos h56 ?_)
    · exact gj_to [0, 4, 5, 6, 7] (J203 a4 a5 a6 a7) rfl
    · refine gj_iload C dX5_rests_59 5 rfl ?_
      refine gj_if_eq (tgt := 203) C dX5_rests_61 (by decide) (fun h61 => gj_pos h61 ?_) (fun h61 => gj_neg h61 ?_)
      · exact gj_to [0, 4, 5, 6, 7] (J203 a4 a5 a6 a7) rfl
      · refine gj_iload C dX5_rests_64 8 rfl ?_
        refine gj_bipush C dX5_rests_66 rfl ?_
        refine gj_nz (fun hz68 => ?_)
        refine gj_idiv C dX5_rests_68 hz68 ?_
        refine gj_let (fun x69 => ?_)
        refine gj_istore (L' := [(9, _), (0, _), (1, _), (2, _), (3, _), (4, _), (5, _), (6, _), (7, _), (8, _)]) C dX5_rests_69 (by decide) rfl ?_
        refine gj_iload C dX5_rests_71 9 rfl ?_
        refine gj_bipush C dX5_rests_73 rfl ?_
        refine gj_nz (fun hz75 => ?_)
        refine gj_irem C dX5_rests_75 hz75 ?_
        refine gj_let (fun x76 => ?_)
        refine gj_istore (L' := [(10, _), (9, _), (0, _), (1, _), (2, _), (3, _), (4, _), (5, _), (6, _), (7, _), (8, _)]) C dX5_rests_76 (by decide) rfl ?_
        refine gj_iconst C dX5_rests_78 ?_
        refine gj_istore (L' := [(11, _), (10, _), (9, _), (0, _), (1, _), (2, _), (3, _), (4, _), (5, _), (6, _), (7, _), (8, _)]) C dX5_rests_79 (by decide) rfl ?_
        refine gj_iconst C dX5_rests_81 ?_
        refine gj_istore (L' := [(12, _), (11, _), (10, _), (9, _), (0, _), (1, _), (2, _), (3, _), (4, _), (5, _), (6, _), (7, _), (8, _)]) C dX5_rests_82 (by decide) rfl ?_
        exact gj_to [4, 5, 6, 7, 8, 9, 10, 11, 12, 3, 2, 1, 0] (J84 a6 a7 a8 x69 x76 1 0) rfl
  have J41 : ∀ (a1 a2 a3 a4 s0 : Int), GJ X 13 (mWo g (cx_s X).heap) Q (m5_rests_j41 a1 a2 a3 a4 s0) 41 [(0, .ref (g.2.2)), (1, .int (iI a1)), (2, .int (iI a2)), (3, .int (iI a3)), (4, .int (iI a4))] [.int (iI s0)] := by
    intro a1 a2 a3 a4 s0
    unfold m5_rests_j41
    refine gj_istore (L' := [(5, _), (0, _), (1, _), (2, _), (3, _), (4, _)]) C dX5_rests_41 (by decide) rfl ?_
    refine gj_iconst C dX5_rests_43 ?_
    refine gj_istore (L' := [(6, _), (5, _), (0, _), (1, _), (2, _), (3, _), (4, _)]) C dX5_rests_44 (by decide) rfl ?_
    refine gj_iconst C dX5_rests_46 ?_
    refine gj_istore (L' := [(7, _), (6, _), (5, _), (0, _), (1, _), (2, _), (3, _), (4, _)]) C dX5_rests_47 (by decide) rfl ?_
    refine gj_iconst C dX5_rests_49 ?_
    refine gj_istore (L' := [(8, _), (7, _), (6, _), (5, _), (0, _), (1, _), (2, _), (3, _), (4, _)]) C dX5_rests_50 (by decide) rfl ?_
    exact gj_to [4, 5, 6, 7, 8, 3, 2, 1, 0] (J52 a1 a2 a3 a4 s0 0 (-1) 0) rfl
  have J40 : ∀ (a1 a2 a3 a4 : Int), GJ X 13 (mWo g (cx_s X).heap) Q (m5_rests_j40 a1 a2 a3 a4) 40 [(0, .ref (g.2.2)), (1, .int (iI a1)), (2, .int (iI a2)), (3, .int (iI a3)), (4, .int (iI a4))] [] := by
    intro a1 a2 a3 a4
    unfold m5_rests_j40
    refine gj_iconst C dX5_rests_40 ?_
    exact gj_to [0, 1, 2, 3, 4] (J41 a1 a2 a3 a4 0) rfl
  unfold m5_rests
  refine gj_iload_n C dX5_rests_0 1 rfl ?_
  refine gj_iconst C dX5_rests_1 ?_
  refine gj_bipush C dX5_rests_2 rfl ?_
  refine mj_callSI (As := [.int (iI a1), .int (iI 0), .int (iI 9)]) (rest := []) C K dX5_rests_4 (met5_within (cx_l X) g a1 0 9) (lw_S q2142 q2143 q134 q2144) hy5s_within hR (Nat.le_of_ble_eq_true rfl) (by decide) rfl rfl (Nat.zero_le _) (fun v4 => ?_)
  refine gj_if_eq (tgt := 40) C dX5_rests_7 (by decide) (fun h7 => gj_pos h7 ?_) (fun h7 => gj_neg h7 ?_)
  · exact gj_to [0, 1, 2, 3, 4] (J40 a1 a2 a3 a4) rfl
  · refine gj_iload_n C dX5_rests_10 2 rfl ?_
    refine gj_iconst C dX5_rests_11 ?_
    refine gj_bipush C dX5_rests_12 rfl ?_
    refine mj_callSI (As := [.int (iI a2), .int (iI 0), .int (iI 9)]) (rest := []) C K dX5_rests_14 (met5_within (cx_l X) g a2 0 9) (lw_S q2142 q2143 q134 q2144) hy5s_within hR (Nat.le_of_ble_eq_true rfl) (by decide) rfl rfl (Nat.zero_le _) (fun v14 => ?_)
    refine gj_if_eq (tgt := 40) C dX5_rests_17 (by decide) (fun h17 => gj_pos h17 ?_) (fun h17 => gj_neg h17 ?_)
    · exact gj_to [0, 1, 2, 3, 4] (J40 a1 a2 a3 a4) rfl
    · refine gj_iload_n C dX5_rests_20 3 rfl ?_
      refine gj_iconst C dX5_rests_21 ?_
      refine gj_bipush C dX5_rests_22 rfl ?_
      refine mj_callSI (As := [.int (iI a3), .int (iI 0), .int (iI 9)]) (rest := []) C K dX5_rests_24 (met5_within (cx_l X) g a3 0 9) (lw_S q2142 q2143 q134 q2144) hy5s_within hR (Nat.le_of_ble_eq_true rfl) (by decide) rfl rfl (Nat.zero_le _) (fun v24 => ?_)
      refine gj_if_eq (tgt := 40) C dX5_rests_27 (by decide) (fun h27 => gj_pos h27 ?_) (fun h27 => gj_neg h27 ?_)
      · exact gj_to [0, 1, 2, 3, 4] (J40 a1 a2 a3 a4) rfl
      · refine gj_iload C dX5_rests_30 4 rfl ?_
        refine gj_iconst C dX5_rests_32 ?_
        refine gj_icmp_lt (tgt := 40) (b' := (-1)) C dX5_rests_33 (by decide) rfl (by decide) (fun h33 => gj_pos h33 ?_) (fun h33 => gj_neg h33 ?_)
        · exact gj_to [0, 1, 2, 3, 4] (J40 a1 a2 a3 a4) rfl
        · refine gj_iconst C dX5_rests_36 ?_
          refine gj_goto (tgt := 41) C dX5_rests_37 (by decide) ?_
          exact gj_to [0, 1, 2, 3, 4] (J41 a1 a2 a3 a4 1) rfl
