/-! THE MODEL: its methods as pure programs, and that the machine runs so (town, readYear, yearWord, year, isPerson, within, person, harmOf, life, may, copies, keeps, mayHide, hide, draw, selfOf, leaves, mayLeave, lot): printed by gen.py -/
def m5_town_b183 (a1 : Int) (bk183 : (Int) → MM Int) : MM Int :=
  pbnd (mget 17) fun v185 =>
  pite (w32 a1 < w32 v185) (
    pbnd (mrd 10 6 a1) fun v201 =>
    pbnd (mwr 9 6 a1 v201) fun _ =>
    bk183 (a1 + 1)) (
    pbnd (mget 17) fun v211 =>
    pbnd (mput 16 v211) fun _ =>
    pbnd (m5_begins) fun _ =>
    pret 0)
def m5_town_l183 (a1 : Int) : MM Int :=
  ploop (fun (s : (Int)) bk183 => m5_town_b183 s bk183) (a1)
def m5_town_b135 (a1 : Int) (bk135 : (Int) → MM Int) : MM Int :=
  pbnd (mget 13) fun v137 =>
  pite (w32 a1 < w32 v137) (
    pbnd (mrd 7 2200 (1100 + a1)) fun v157 =>
    pbnd (mwr 7 2200 a1 v157) fun _ =>
    pbnd (mrd 8 2200 (1100 + a1)) fun v173 =>
    pbnd (mwr 8 2200 a1 v173) fun _ =>
    bk135 (a1 + 1)) (
    m5_town_l183 0)
def m5_town_l135 (a1 : Int) : MM Int :=
  ploop (fun (s : (Int)) bk135 => m5_town_b135 s bk135) (a1)
def m5_town_b106 (a1 : Int) (bk106 : (Int) → MM Int) : MM Int :=
  pite (w32 a1 < 80) (
    pbnd (mrd 6 160 (80 + a1)) fun v125 =>
    pbnd (mwr 6 160 a1 v125) fun _ =>
    bk106 (a1 + 1)) (
    m5_town_l135 0)
def m5_town_l106 (a1 : Int) : MM Int :=
  ploop (fun (s : (Int)) bk106 => m5_town_b106 s bk106) (a1)
def m5_town_j92 : MM Int :=
  pbnd (mget 8) fun v93 =>
  pite (0 < w32 v93) (
    pbnd (mget 8) fun v100 =>
    pret v100) (
    m5_town_l106 0)
def m5_town_j83 (bk30 : Unit → MM Int) : MM Int :=
  pbnd (m5_takeSign 59) fun _ =>
  bk30 ()
def m5_town_b30 (bk30 : Unit → MM Int) : MM Int :=
  pbnd (mget 8) fun v31 =>
  pite (w32 v31 = 0) (
    pbnd (mget 7) fun v42 =>
    pbnd (mrd 2 1002 v42) fun v45 =>
    pite (w32 v45 = 0) (
      m5_town_j92) (
      pbnd (m5_isWord 0) fun v51 =>
      pite (w32 v51 = 0) (
        pbnd (m5_isWord 5) fun v66 =>
        pite (w32 v66 = 0) (
          pbnd (m5_readOnce) fun _ =>
          m5_town_j83 bk30) (
          pbnd (m5_readBar) fun _ =>
          m5_town_j83 bk30)) (
        pbnd (m5_readPerson) fun _ =>
        m5_town_j83 bk30))) (
    m5_town_j92)
def m5_town_l30 : MM Int :=
  ploop (fun (s : Unit) bk30 => m5_town_b30 bk30) ()
def m5_town : MM Int :=
  pbnd (mput 0 0) fun _ =>
  pbnd (m5_cutAll) fun _ =>
  pbnd (mput 13 0) fun _ =>
  pbnd (mput 17 0) fun _ =>
  pbnd (mputz 18 0) fun _ =>
  pbnd (m5_standsAsAlways 80) fun _ =>
  m5_town_l30
set_option maxHeartbeats 4000000 in
set_option maxRecDepth 100000 in
theorem met5_town (l : Launch) (g : MG) : MMet l g yX5_town cX5_town 2 (Option.some Jvm.ClassFile.FieldType.int) (66) [.ref (g.2.2)] (m5_town) rvI := by
  refine mj_start (by decide +kernel) rfl (Nat.le_of_ble_eq_true rfl) (fun X Q hl C K hQ hR hr => ?_)
  subst hl
  show GJ X 2 (mWo g (cx_s X).heap) Q (m5_town) 0 [(0, .ref (g.2.2))] []
  have J183 : ∀ (a1 : Int), GJ X 2 (mWo g (cx_s X).heap) Q (m5_town_l183 a1) 183 [(0, .ref (g.2.2)), (1, .int (iI a1))] [] := by
    intro a1
    unfold m5_town_l183
    refine gj_loop (fun (s : (Int)) => [(0, .ref (g.2.2)), (1, .int (iI s))]) (a1) (fun bk183 hb183 s => ?_)
    obtain ⟨a1, rfl⟩ : ∃ z, z = s := ⟨s, rfl⟩
    show GJ X 2 (mWo g (cx_s X).heap) Q (m5_town_b183 a1 bk183) 183 [(0, .ref (g.2.2)), (1, .int (iI a1))] []
    unfold m5_town_b183
    refine gj_iload_n C dX5_town_183 1 rfl ?_
    refine gj_aload_n C dX5_town_184 0 rfl ?_
    refine mj_getI (kf := 17) C K dX5_town_185 (by decide) (by decide) rfl q1888 rfl (fun v185 => ?_)
    refine gj_icmp_ge (tgt := 209) C dX5_town_188 (by decide) rfl rfl (fun h188 => gj_neg h188 ?_) (fun h188 => gj_pos h188 ?_)
    · refine gj_aload_n C dX5_town_209 0 rfl ?_
      refine gj_aload_n C dX5_town_210 0 rfl ?_
      refine mj_getI (kf := 17) C K dX5_town_211 (by decide) (by decide) rfl q1888 rfl (fun v211 => ?_)
      refine mj_putI (kf := 16) C K dX5_town_214 (by decide) (by decide) rfl q1887 rfl rfl (by decide +kernel) ?_
      refine gj_aload_n C dX5_town_217 0 rfl ?_
      refine mj_callVV (As := []) (rest := []) C K dX5_town_218 (met5_begins (cx_l X) g) (lw_V q1843 q1845 qs53 q134 q1846) hy5_begins hR (Nat.le_of_ble_eq_true rfl) (by decide) rfl rfl (Nat.zero_le _) ?_
      refine gj_iconst C dX5_town_221 ?_
      exact mj_iret C hQ hr dX5_town_222
    · refine gj_aload_n C dX5_town_191 0 rfl ?_
      refine mj_getR (kf := 14) (j := 9) C K dX5_town_192 (by decide) (by decide) rfl (by decide) q1885 rfl ?_
      refine gj_iload_n C dX5_town_195 1 rfl ?_
      refine gj_aload_n C dX5_town_196 0 rfl ?_
      refine mj_getR (kf := 15) (j := 10) C K dX5_town_197 (by decide) (by decide) rfl (by decide) q1886 rfl ?_
      refine gj_iload_n C dX5_town_200 1 rfl ?_
      refine mj_lald (j := 10) C K dX5_town_201 (by decide) rfl (fun v201 => ?_)
      refine mj_last (j := 9) C K dX5_town_202 (by decide) (by decide) rfl ?_
      refine gj_iinc (L' := [(1, _), (0, _)]) C dX5_town_203 1 rfl (by decide) rfl ?_
      refine gj_goto (tgt := 183) C dX5_town_206 (by decide) ?_
      exact gj_to [1, 0] (hb183 (a1 + 1)) rfl
  have J135 : ∀ (a1 : Int), GJ X 2 (mWo g (cx_s X).heap) Q (m5_town_l135 a1) 135 [(0, .ref (g.2.2)), (1, .int (iI a1))] [] := by
    intro a1
    unfold m5_town_l135
    refine gj_loop (fun (s : (Int)) => [(0, .ref (g.2.2)), (1, .int (iI s))]) (a1) (fun bk135 hb135 s => ?_)
    obtain ⟨a1, rfl⟩ : ∃ z, z = s := ⟨s, rfl⟩
    show GJ X 2 (mWo g (cx_s X).heap) Q (m5_town_b135 a1 bk135) 135 [(0, .ref (g.2.2)), (1, .int (iI a1))] []
    unfold m5_town_b135
    refine gj_iload_n C dX5_town_135 1 rfl ?_
    refine gj_aload_n C dX5_town_136 0 rfl ?_
    refine mj_getI (kf := 13) C K dX5_town_137 (by decide) (by decide) rfl q1884 rfl (fun v137 => ?_)
    refine gj_icmp_ge (tgt := 181) C dX5_town_140 (by decide) rfl rfl (fun h140 => gj_neg h140 ?_) (fun h140 => gj_pos h140 ?_)
    · refine gj_iconst C dX5_town_181 ?_
      refine gj_istore_n (L' := [(1, _), (0, _)]) C dX5_town_182 (by decide) rfl ?_
      exact gj_to [1, 0] (J183 0) rfl
    · refine gj_aload_n C dX5_town_143 0 rfl ?_
      refine mj_getR (kf := 11) (j := 7) C K dX5_town_144 (by decide) (by decide) rfl (by decide) q1882 rfl ?_
      refine gj_iload_n C dX5_town_147 1 rfl ?_
      refine gj_aload_n C dX5_town_148 0 rfl ?_
      refine mj_getR (kf := 11) (j := 7) C K dX5_town_149 (by decide) (by decide) rfl (by decide) q1882 rfl ?_
      refine gj_sipush C dX5_town_152 rfl ?_
      refine gj_iload_n C dX5_town_155 1 rfl ?_
      refine gj_iadd C dX5_town_156 ?_
      refine mj_iald (j := 7) C K dX5_town_157 (by decide) rfl (fun v157 => ?_)
      refine mj_iast (j := 7) C K dX5_town_158 (by decide) (by decide) rfl ?_
      refine gj_aload_n C dX5_town_159 0 rfl ?_
      refine mj_getR (kf := 12) (j := 8) C K dX5_town_160 (by decide) (by decide) rfl (by decide) q1883 rfl ?_
      refine gj_iload_n C dX5_town_163 1 rfl ?_
      refine gj_aload_n C dX5_town_164 0 rfl ?_
      refine mj_getR (kf := 12) (j := 8) C K dX5_town_165 (by decide) (by decide) rfl (by decide) q1883 rfl ?_
      refine gj_sipush C dX5_town_168 rfl ?_
      refine gj_iload_n C dX5_town_171 1 rfl ?_
      refine gj_iadd C dX5_town_172 ?_
      refine mj_iald (j := 8) C K dX5_town_173 (by decide) rfl (fun v173 => ?_)
      refine mj_iast (j := 8) C K dX5_town_174 (by decide) (by decide) rfl ?_
      refine gj_iinc (L' := [(1, _), (0, _)]) C dX5_town_175 1 rfl (by decide) rfl ?_
      refine gj_goto (tgt := 135) C dX5_town_178 (by decide) ?_
      exact gj_to [1, 0] (hb135 (a1 + 1)) rfl
  have J106 : ∀ (a1 : Int), GJ X 2 (mWo g (cx_s X).heap) Q (m5_town_l106 a1) 106 [(0, .ref (g.2.2)), (1, .int (iI a1))] [] := by
    intro a1
    unfold m5_town_l106
    refine gj_loop (fun (s : (Int)) => [(0, .ref (g.2.2)), (1, .int (iI s))]) (a1) (fun bk106 hb106 s => ?_)
    obtain ⟨a1, rfl⟩ : ∃ z, z = s := ⟨s, rfl⟩
    show GJ X 2 (mWo g (cx_s X).heap) Q (m5_town_b106 a1 bk106) 106 [(0, .ref (g.2.2)), (1, .int (iI a1))] []
    unfold m5_town_b106
    refine gj_iload_n C dX5_town_106 1 rfl ?_
    refine gj_bipush C dX5_town_107 rfl ?_
    refine gj_icmp_ge (tgt := 133) (b' := 80) C dX5_town_109 (by decide) rfl (by decide) (fun h109 => gj_neg h109 ?_) (fun h109 => gj_pos h109 ?_)
    · refine gj_iconst C dX5_town_133 ?_
      refine gj_istore_n (L' := [(1, _), (0, _)]) C dX5_town_134 (by decide) rfl ?_
      exact gj_to [1, 0] (J135 0) rfl
    · refine gj_aload_n C dX5_town_112 0 rfl ?_
      refine mj_getR (kf := 10) (j := 6) C K dX5_town_113 (by decide) (by decide) rfl (by decide) q1881 rfl ?_
      refine gj_iload_n C dX5_town_116 1 rfl ?_
      refine gj_aload_n C dX5_town_117 0 rfl ?_
      refine mj_getR (kf := 10) (j := 6) C K dX5_town_118 (by decide) (by decide) rfl (by decide) q1881 rfl ?_
      refine gj_bipush C dX5_town_121 rfl ?_
      refine gj_iload_n C dX5_town_123 1 rfl ?_
      refine gj_iadd C dX5_town_124 ?_
      refine mj_iald (j := 6) C K dX5_town_125 (by decide) rfl (fun v125 => ?_)
      refine mj_iast (j := 6) C K dX5_town_126 (by decide) (by decide) rfl ?_
      refine gj_iinc (L' := [(1, _), (0, _)]) C dX5_town_127 1 rfl (by decide) rfl ?_
      refine gj_goto (tgt := 106) C dX5_town_130 (by decide) ?_
      exact gj_to [1, 0] (hb106 (a1 + 1)) rfl
  have J92 : GJ X 2 (mWo g (cx_s X).heap) Q (m5_town_j92) 92 [(0, .ref (g.2.2))] [] := by
    unfold m5_town_j92
    refine gj_aload_n C dX5_town_92 0 rfl ?_
    refine mj_getI (kf := 8) C K dX5_town_93 (by decide) (by decide) rfl q1879 rfl (fun v93 => ?_)
    refine gj_if_le (tgt := 104) C dX5_town_96 (by decide) (fun h96 => gj_neg h96 ?_) (fun h96 => gj_pos h96 ?_)
    · refine gj_iconst C dX5_town_104 ?_
      refine gj_istore_n (L' := [(1, _), (0, _)]) C dX5_town_105 (by decide) rfl ?_
      exact gj_to [1, 0] (J106 0) rfl
    · refine gj_aload_n C dX5_town_99 0 rfl ?_
      refine mj_getI (kf := 8) C K dX5_town_100 (by decide) (by decide) rfl q1879 rfl (fun v100 => ?_)
      exact mj_iret C hQ hr dX5_town_103
  have J30 : GJ X 2 (mWo g (cx_s X).heap) Q (m5_town_l30) 30 [(0, .ref (g.2.2))] [] := by
    unfold m5_town_l30
    refine gj_loop (fun (s : Unit) => [(0, .ref (g.2.2))]) () (fun bk30 hb30 s => ?_)
    show GJ X 2 (mWo g (cx_s X).heap) Q (m5_town_b30 bk30) 30 [(0, .ref (g.2.2))] []
    have J83 : GJ X 2 (mWo g (cx_s X).heap) Q (m5_town_j83 bk30) 83 [(0, .ref (g.2.2))] [] := by
      unfold m5_town_j83
      refine gj_aload_n C dX5_town_83 0 rfl ?_
      refine gj_bipush C dX5_town_84 rfl ?_
      refine mj_callVV (As := [.int (iI 59)]) (rest := []) C K dX5_town_86 (met5_takeSign (cx_l X) g 59) (lw_V q2118 q2120 qs84 q134 q2121) hy5_takeSign hR (Nat.le_of_ble_eq_true rfl) (by decide) rfl rfl (Nat.zero_le _) ?_
      refine gj_goto (tgt := 30) C dX5_town_89 (by decide) ?_
      exact gj_to [0] (hb30 ()) rfl
    unfold m5_town_b30
    refine gj_aload_n C dX5_town_30 0 rfl ?_
    refine mj_getI (kf := 8) C K dX5_town_31 (by decide) (by decide) rfl q1879 rfl (fun v31 => ?_)
    refine gj_if_ne (tgt := 92) C dX5_town_34 (by decide) (fun h34 => gj_neg h34 ?_) (fun h34 => gj_pos h34 ?_)
    · exact gj_to [0] (J92) rfl
    · refine gj_aload_n C dX5_town_37 0 rfl ?_
      refine mj_getR (kf := 4) (j := 2) C K dX5_town_38 (by decide) (by decide) rfl (by decide) q1875 rfl ?_
      refine gj_aload_n C dX5_town_41 0 rfl ?_
      refine mj_getI (kf := 7) C K dX5_town_42 (by decide) (by decide) rfl q1878 rfl (fun v42 => ?_)
      refine mj_iald (j := 2) C K dX5_town_45 (by decide) rfl (fun v45 => ?_)
      refine gj_if_eq (tgt := 92) C dX5_town_46 (by decide) (fun h46 => gj_pos h46 ?_) (fun h46 => gj_neg h46 ?_)
      · exact gj_to [0] (J92) rfl
      · refine gj_aload_n C dX5_town_49 0 rfl ?_
        refine gj_iconst C dX5_town_50 ?_
        refine mj_callVI (As := [.int (iI 0)]) (rest := []) C K dX5_town_51 (met5_isWord (cx_l X) g 0) (lw_V q2026 q2028 qs61 q134 q2029) hy5_isWord hR (Nat.le_of_ble_eq_true rfl) (by decide) rfl rfl (Nat.zero_le _) (fun v51 => ?_)
        refine gj_if_eq (tgt := 64) C dX5_town_54 (by decide) (fun h54 => gj_pos h54 ?_) (fun h54 => gj_neg h54 ?_)
        · refine gj_aload_n C dX5_town_64 0 rfl ?_
          refine gj_iconst C dX5_town_65 ?_
          refine mj_callVI (As := [.int (iI 5)]) (rest := []) C K dX5_town_66 (met5_isWord (cx_l X) g 5) (lw_V q2026 q2028 qs61 q134 q2029) hy5_isWord hR (Nat.le_of_ble_eq_true rfl) (by decide) rfl rfl (Nat.zero_le _) (fun v66 => ?_)
          refine gj_if_eq (tgt := 79) C dX5_town_69 (by decide) (fun h69 => gj_pos h69 ?_) (fun h69 => gj_neg h69 ?_)
          · refine gj_aload_n C dX5_town_79 0 rfl ?_
            refine mj_callVV (As := []) (rest := []) C K dX5_town_80 (met5_readOnce (cx_l X) g) (lw_V q2082 q2084 qs75 q134 q2085) hy5_readOnce hR (Nat.le_of_ble_eq_true rfl) (by decide) rfl rfl (Nat.zero_le _) ?_
            exact gj_to [0] (J83) rfl
          · refine gj_aload_n C dX5_town_72 0 rfl ?_
            refine mj_callVV (As := []) (rest := []) C K dX5_town_73 (met5_readBar (cx_l X) g) (lw_V q2070 q2072 qs72 q134 q2073) hy5_readBar hR (Nat.le_of_ble_eq_true rfl) (by decide) rfl rfl (Nat.zero_le _) ?_
            refine gj_goto (tgt := 83) C dX5_town_76 (by decide) ?_
            exact gj_to [0] (J83) rfl
        · refine gj_aload_n C dX5_town_57 0 rfl ?_
          refine mj_callVV (As := []) (rest := []) C K dX5_town_58 (met5_readPerson (cx_l X) g) (lw_V q2030 q2032 qs62 q134 q2033) hy5_readPerson hR (Nat.le_of_ble_eq_true rfl) (by decide) rfl rfl (Nat.zero_le _) ?_
          refine gj_goto (tgt := 83) C dX5_town_61 (by decide) ?_
          exact gj_to [0] (J83) rfl
  unfold m5_town
  refine gj_aload_n C dX5_town_0 0 rfl ?_
  refine gj_iconst C dX5_town_1 ?_
  refine mj_putI (kf := 0) C K dX5_town_2 (by decide) (by decide) rfl q1871 rfl rfl (by decide +kernel) ?_
  refine gj_aload_n C dX5_town_5 0 rfl ?_
  refine mj_callVV (As := []) (rest := []) C K dX5_town_6 (met5_cutAll (cx_l X) g) (lw_V q2007 q2009 qs60 q134 q2010) hy5_cutAll hR (Nat.le_of_ble_eq_true rfl) (by decide) rfl rfl (Nat.zero_le _) ?_
  refine gj_aload_n C dX5_town_9 0 rfl ?_
  refine gj_iconst C dX5_town_10 ?_
  refine mj_putI (kf := 13) C K dX5_town_11 (by decide) (by decide) rfl q1884 rfl rfl (by decide +kernel) ?_
  refine gj_aload_n C dX5_town_14 0 rfl ?_
  refine gj_iconst C dX5_town_15 ?_
  refine mj_putI (kf := 17) C K dX5_town_16 (by decide) (by decide) rfl q1888 rfl rfl (by decide +kernel) ?_
  refine gj_aload_n C dX5_town_19 0 rfl ?_
  refine gj_iconst C dX5_town_20 ?_
  refine mj_putZ (kf := 18) C K dX5_town_21 (by decide) (by decide) rfl q1889 rfl rfl (by decide +kernel) ?_
  refine gj_aload_n C dX5_town_24 0 rfl ?_
  refine gj_bipush C dX5_town_25 rfl ?_
  refine mj_callVV (As := [.int (iI 80)]) (rest := []) C K dX5_town_27 (met5_standsAsAlways (cx_l X) g 80) (lw_V q1839 q1841 qs52 q134 q1842) hy5_standsAsAlways hR (Nat.le_of_ble_eq_true rfl) (by decide) rfl rfl (Nat.zero_le _) ?_
  exact gj_to [0] (J30) rfl
def m5_readYear_j114 : MM Unit :=
  pbnd (mget 7) fun v116 =>
  pbnd (mget 8) fun v120 =>
  plet (if 0 < w32 v120 then 0 else 1) fun d131 =>
  pbnd (mput 7 (w32 (v116 + d131))) fun _ =>
  pret ()
def m5_readYear (a1 a2 : Int) : MM Unit :=
  pite (w32 a1 = 0) (
    pbnd (m5_takeTold 0) fun v11 =>
    pbnd (mwr 11 250 a2 v11) fun _ =>
    pbnd (m5_takeNumber 0 999) fun v27 =>
    pbnd (mwr 11 250 (a2 + 1) v27) fun _ =>
    pret ()) (
    pite (w32 a1 = 1) (
      pbnd (m5_takeNumber 0 9999) fun v49 =>
      pbnd (mwr 11 250 a2 v49) fun _ =>
      pret ()) (
      pite (w32 a1 = 2) (
        pbnd (m5_takeTold 0) fun v68 =>
        pbnd (mwr 11 250 a2 v68) fun _ =>
        pbnd (m5_toldHere 0) fun v81 =>
        pbnd (mwr 11 250 (a2 + 1) v81) fun _ =>
        pbnd (mget 8) fun v86 =>
        pite (w32 v86 = 0) (
          pbnd (mrd 11 250 a2) fun v97 =>
          pbnd (mrd 11 250 (a2 + 1)) fun v105 =>
          pite (w32 v97 = w32 v105) (
            pbnd (m5_wrong 3) fun _ =>
            m5_readYear_j114) (
            m5_readYear_j114)) (
          m5_readYear_j114)) (
        pret ())))
set_option maxHeartbeats 4000000 in
set_option maxRecDepth 100000 in
theorem met5_readYear (l : Launch) (g : MG) (a1 a2 : Int) : MMet l g yX5_readYear cX5_readYear 3 (Option.none : Option Jvm.ClassFile.FieldType) (5) [.ref (g.2.2), .int (iI a1), .int (iI a2)] (m5_readYear a1 a2) rvV := by
  refine mj_start (by decide +kernel) rfl (Nat.le_of_ble_eq_true rfl) (fun X Q hl C K hQ hR hr => ?_)
  subst hl
  show GJ X 3 (mWo g (cx_s X).heap) Q (m5_readYear a1 a2) 0 [(0, .ref (g.2.2)), (1, .int (iI a1)), (2, .int (iI a2))] []
  have J114 : GJ X 3 (mWo g (cx_s X).heap) Q (m5_readYear_j114) 114 [(0, .ref (g.2.2))] [] := by
    unfold m5_readYear_j114
    refine gj_aload_n C dX5_readYear_114 0 rfl ?_
    refine gj_dup C dX5_readYear_115 rfl ?_
    refine mj_getI (kf := 7) C K dX5_readYear_116 (by decide) (by decide) rfl q1878 rfl (fun v116 => ?_)
    refine gj_aload_n C dX5_readYear_119 0 rfl ?_
    refine mj_getI (kf := 8) C K dX5_readYear_120 (by decide) (by decide) rfl q1879 rfl (fun v120 => ?_)
    refine gj_dia (J := 131) (L := [(0, .ref (g.2.2))]) (st := [.int (iI v116), .ref (g.2.2)]) (fun d131 => ?_) (fun t hJ => ?_)
    · skip
      refine gj_iadd C dX5_readYear_131 ?_
      refine gj_nrmI ?_
      refine mj_putI (kf := 7) C K dX5_readYear_132 (by decide) (by decide) rfl q1878 rfl rfl (by decide +kernel) ?_
      exact mj_vret C hQ hr dX5_readYear_135
    · refine gj_if_le (tgt := 130) C dX5_readYear_123 (by decide) (fun h123 => ?_) (fun h123 => ?_)
      · refine gj_iconst C dX5_readYear_130 ?_
        exact (by rw [if_neg h123] at hJ; exact hJ)
      · refine gj_iconst C dX5_readYear_126 ?_
        refine gj_goto (tgt := 131) C dX5_readYear_127 (by decide) ?_
        exact (by rw [if_pos h123] at hJ; exact hJ)
  unfold m5_readYear
  refine gj_iload_n C dX5_readYear_0 1 rfl ?_
  refine gj_if_ne (tgt := 34) C dX5_readYear_1 (by decide) (fun h1 => gj_neg h1 ?_) (fun h1 => gj_pos h1 ?_)
  · refine gj_iload_n C dX5_readYear_34 1 rfl ?_
    refine gj_iconst C dX5_readYear_35 ?_
    refine gj_icmp_ne (tgt := 56) (b' := 1) C dX5_readYear_36 (by decide) rfl (by decide) (fun h36 => gj_neg h36 ?_) (fun h36 => gj_pos h36 ?_)
    · refine gj_iload_n C dX5_readYear_56 1 rfl ?_
      refine gj_iconst C dX5_readYear_57 ?_
      refine gj_icmp_ne (tgt := 135) (b' := 2) C dX5_readYear_58 (by decide) rfl (by decide) (fun h58 => gj_neg h58 ?_) (fun h58 => gj_pos h58 ?_)
      · exact mj_vret C hQ hr dX5_readYear_135
      · refine gj_aload_n C dX5_readYear_61 0 rfl ?_
        refine mj_getR (kf := 20) (j := 11) C K dX5_readYear_62 (by decide) (by decide) rfl (by decide) q1891 rfl ?_
        refine gj_iload_n C dX5_readYear_65 2 rfl ?_
        refine gj_aload_n C dX5_readYear_66 0 rfl ?_
        refine gj_iconst C dX5_readYear_67 ?_
        refine mj_callVI (As := [.int (iI 0)]) (rest := [.int (iI a2), .ref (g.2.2 + 11)]) C K dX5_readYear_68 (met5_takeTold (cx_l X) g 0) (lw_V q2074 q2076 qs73 q134 q2077) hy5_takeTold hR (Nat.le_of_ble_eq_true rfl) (by decide) rfl rfl (Nat.le_of_ble_eq_true rfl) (fun v68 => ?_)
        refine mj_iast (j := 11) C K dX5_readYear_71 (by decide) (by decide) rfl ?_
        refine gj_aload_n C dX5_readYear_72 0 rfl ?_
        refine mj_getR (kf := 20) (j := 11) C K dX5_readYear_73 (by decide) (by decide) rfl (by decide) q1891 rfl ?_
        refine gj_iload_n C dX5_readYear_76 2 rfl ?_
        refine gj_iconst C dX5_readYear_77 ?_
        refine gj_iadd C dX5_readYear_78 ?_
        refine gj_aload_n C dX5_readYear_79 0 rfl ?_
        refine gj_iconst C dX5_readYear_80 ?_
        refine mj_callVI (As := [.int (iI 0)]) (rest := [.int (iI ((a2 + 1))), .ref (g.2.2 + 11)]) C K dX5_readYear_81 (met5_toldHere (cx_l X) g 0) (lw_V q2078 q2080 qs74 q134 q2081) hy5_toldHere hR (Nat.le_of_ble_eq_true rfl) (by decide) rfl rfl (Nat.le_of_ble_eq_true rfl) (fun v81 => ?_)
        refine mj_iast (j := 11) C K dX5_readYear_84 (by decide) (by decide) rfl ?_
        refine gj_aload_n C dX5_readYear_85 0 rfl ?_
        refine mj_getI (kf := 8) C K dX5_readYear_86 (by decide) (by decide) rfl q1879 rfl (fun v86 => ?_)
        refine gj_if_ne (tgt := 114) C dX5_readYear_89 (by decide) (fun h89 => gj_neg h89 ?_) (fun h89 => gj_pos h89 ?_)
        · exact gj_to [0] (J114) rfl
        · refine gj_aload_n C dX5_readYear_92 0 rfl ?_
          refine mj_getR (kf := 20) (j := 11) C K dX5_readYear_93 (by decide) (by decide) rfl (by decide) q1891 rfl ?_
          refine gj_iload_n C dX5_readYear_96 2 rfl ?_
          refine mj_iald (j := 11) C K dX5_readYear_97 (by decide) rfl (fun v97 => ?_)
          refine gj_aload_n C dX5_readYear_98 0 rfl ?_
          refine mj_getR (kf := 20) (j := 11) C K dX5_readYear_99 (by decide) (by decide) rfl (by decide) q1891 rfl ?_
          refine gj_iload_n C dX5_readYear_102 2 rfl ?_
          refine gj_iconst C dX5_readYear_103 ?_
          refine gj_iadd C dX5_readYear_104 ?_
          refine mj_iald (j := 11) C K dX5_readYear_105 (by decide) rfl (fun v105 => ?_)
          refine gj_icmp_ne (tgt := 114) C dX5_readYear_106 (by decide) rfl rfl (fun h106 => gj_neg h106 ?_) (fun h106 => gj_pos h106 ?_)
          · exact gj_to [0] (J114) rfl
          · refine gj_aload_n C dX5_readYear_109 0 rfl ?_
            refine gj_iconst C dX5_readYear_110 ?_
            refine mj_callVV (As := [.int (iI 3)]) (rest := []) C K dX5_readYear_111 (met5_wrong (cx_l X) g 3) (lw_V q2034 q2036 qs63 q134 q2037) hy5_wrong hR (Nat.le_of_ble_eq_true rfl) (by decide) rfl rfl (Nat.zero_le _) ?_
            exact gj_to [0] (J114) rfl
    · refine gj_aload_n C dX5_readYear_39 0 rfl ?_
      refine mj_getR (kf := 20) (j := 11) C K dX5_readYear_40 (by decide) (by decide) rfl (by decide) q1891 rfl ?_
      refine gj_iload_n C dX5_readYear_43 2 rfl ?_
      refine gj_aload_n C dX5_readYear_44 0 rfl ?_
      refine gj_iconst C dX5_readYear_45 ?_
      refine gj_sipush C dX5_readYear_46 rfl ?_
      refine mj_callVI (As := [.int (iI 0), .int (iI 9999)]) (rest := [.int (iI a2), .ref (g.2.2 + 11)]) C K dX5_readYear_49 (met5_takeNumber (cx_l X) g 0 9999) (lw_V q2066 q2068 qs71 q134 q2069) hy5_takeNumber hR (Nat.le_of_ble_eq_true rfl) (by decide) rfl rfl (Nat.le_of_ble_eq_true rfl) (fun v49 => ?_)
      refine mj_iast (j := 11) C K dX5_readYear_52 (by decide) (by decide) rfl ?_
      refine gj_goto (tgt := 135) C dX5_readYear_53 (by decide) ?_
      exact mj_vret C hQ hr dX5_readYear_135
  · refine gj_aload_n C dX5_readYear_4 0 rfl ?_
    refine mj_getR (kf := 20) (j := 11) C K dX5_readYear_5 (by decide) (by decide) rfl (by decide) q1891 rfl ?_
    refine gj_iload_n C dX5_readYear_8 2 rfl ?_
    refine gj_aload_n C dX5_readYear_9 0 rfl ?_
    refine gj_iconst C dX5_readYear_10 ?_
    refine mj_callVI (As := [.int (iI 0)]) (rest := [.int (iI a2), .ref (g.2.2 + 11)]) C K dX5_readYear_11 (met5_takeTold (cx_l X) g 0) (lw_V q2074 q2076 qs73 q134 q2077) hy5_takeTold hR (Nat.le_of_ble_eq_true rfl) (by decide) rfl rfl (Nat.le_of_ble_eq_true rfl) (fun v11 => ?_)
    refine mj_iast (j := 11) C K dX5_readYear_14 (by decide) (by decide) rfl ?_
    refine gj_aload_n C dX5_readYear_15 0 rfl ?_
    refine mj_getR (kf := 20) (j := 11) C K dX5_readYear_16 (by decide) (by decide) rfl (by decide) q1891 rfl ?_
    refine gj_iload_n C dX5_readYear_19 2 rfl ?_
    refine gj_iconst C dX5_readYear_20 ?_
    refine gj_iadd C dX5_readYear_21 ?_
    refine gj_aload_n C dX5_readYear_22 0 rfl ?_
    refine gj_iconst C dX5_readYear_23 ?_
    refine gj_sipush C dX5_readYear_24 rfl ?_
    refine mj_callVI (As := [.int (iI 0), .int (iI 999)]) (rest := [.int (iI ((a2 + 1))), .ref (g.2.2 + 11)]) C K dX5_readYear_27 (met5_takeNumber (cx_l X) g 0 999) (lw_V q2066 q2068 qs71 q134 q2069) hy5_takeNumber hR (Nat.le_of_ble_eq_true rfl) (by decide) rfl rfl (Nat.le_of_ble_eq_true rfl) (fun v27 => ?_)
    refine mj_iast (j := 11) C K dX5_readYear_30 (by decide) (by decide) rfl ?_
    refine gj_goto (tgt := 135) C dX5_readYear_31 (by decide) ?_
    exact mj_vret C hQ hr dX5_readYear_135
def m5_yearWord : MM Int :=
  pbnd (m5_isWord 4) fun v2 =>
  pite (w32 v2 = 0) (
    pbnd (m5_wordHere 11 4) fun v16 =>
    pret v16) (
    pret 4)
set_option maxHeartbeats 4000000 in
set_option maxRecDepth 100000 in
theorem met5_yearWord (l : Launch) (g : MG) : MMet l g yX5_yearWord cX5_yearWord 1 (Option.some Jvm.ClassFile.FieldType.int) (2) [.ref (g.2.2)] (m5_yearWord) rvI := by
  refine mj_start (by decide +kernel) rfl (Nat.le_of_ble_eq_true rfl) (fun X Q hl C K hQ hR hr => ?_)
  subst hl
  show GJ X 1 (mWo g (cx_s X).heap) Q (m5_yearWord) 0 [(0, .ref (g.2.2))] []
  unfold m5_yearWord
  refine gj_aload_n C dX5_yearWord_0 0 rfl ?_
  refine gj_iconst C dX5_yearWord_1 ?_
  refine mj_callVI (As := [.int (iI 4)]) (rest := []) C K dX5_yearWord_2 (met5_isWord (cx_l X) g 4) (lw_V q2026 q2028 qs61 q134 q2029) hy5_isWord hR (Nat.le_of_ble_eq_true rfl) (by decide) rfl rfl (Nat.zero_le _) (fun v2 => ?_)
  refine gj_if_eq (tgt := 12) C dX5_yearWord_5 (by decide) (fun h5 => gj_pos h5 ?_) (fun h5 => gj_neg h5 ?_)
  · refine gj_aload_n C dX5_yearWord_12 0 rfl ?_
    refine gj_bipush C dX5_yearWord_13 rfl ?_
    refine gj_iconst C dX5_yearWord_15 ?_
    refine mj_callVI (As := [.int (iI 11), .int (iI 4)]) (rest := []) C K dX5_yearWord_16 (met5_wordHere (cx_l X) g 11 4) (lw_V q2042 q2044 qs65 q134 q2045) hy5_wordHere hR (Nat.le_of_ble_eq_true rfl) (by decide) rfl rfl (Nat.zero_le _) (fun v16 => ?_)
    exact mj_iret C hQ hr dX5_yearWord_19
  · refine gj_iconst C dX5_yearWord_8 ?_
    refine gj_goto (tgt := 19) C dX5_yearWord_9 (by decide) ?_
    exact mj_iret C hQ hr dX5_yearWord_19
def m5_year_b127 (a1 : Int) (a2 : Int) (bk127 : (Int) → MM Int) : MM Int :=
  pite (w32 a2 < w32 ((3 * a1))) (
    pbnd (mrd 11 250 (125 + a2)) fun v149 =>
    pbnd (mwr 11 250 (1 + a2) v149) fun _ =>
    bk127 (a2 + 1)) (
    pret 0)
def m5_year_l127 (a1 a2 : Int) : MM Int :=
  ploop (fun (s : (Int)) bk127 => m5_year_b127 a1 s bk127) (a2)
def m5_year_j106 (a1 : Int) : MM Int :=
  pbnd (mget 8) fun v107 =>
  pite (0 < w32 v107) (
    pbnd (mget 8) fun v114 =>
    pret v114) (
    pbnd (mwr 11 250 0 (w32 a1)) fun _ =>
    m5_year_l127 a1 0)
def m5_year_j97 (a1 : Int) (bk11 : (Int) → MM Int) : MM Int :=
  pbnd (m5_takeSign 59) fun _ =>
  bk11 (a1)
def m5_year_b11 (a1 : Int) (bk11 : (Int) → MM Int) : MM Int :=
  pbnd (mget 8) fun v12 =>
  pite (w32 v12 = 0) (
    pbnd (mget 7) fun v23 =>
    pbnd (mrd 2 1002 v23) fun v26 =>
    pite (w32 v26 = 0) (
      m5_year_j106 a1) (
      pbnd (m5_yearWord) fun v31 =>
      pite (w32 v31 < 0) (
        pbnd (m5_wrong 1) fun _ =>
        m5_year_j97 a1 bk11) (
        pite (w32 a1 = 40) (
          pbnd (m5_wrong 5) fun _ =>
          m5_year_j97 a1 bk11) (
          pbnd (mget 7) fun v63 =>
          pbnd (mput 7 (w32 (v63 + 1))) fun _ =>
          pbnd (mwr 11 250 (125 + ((3 * a1))) v31) fun _ =>
          pbnd (m5_readYear v31 (126 + ((3 * a1)))) fun _ =>
          m5_year_j97 (a1 + 1) bk11)))) (
    m5_year_j106 a1)
def m5_year_l11 (a1 : Int) : MM Int :=
  ploop (fun (s : (Int)) bk11 => m5_year_b11 s bk11) (a1)
def m5_year : MM Int :=
  pbnd (mput 0 0) fun _ =>
  pbnd (m5_cutAll) fun _ =>
  m5_year_l11 0
set_option maxHeartbeats 4000000 in
set_option maxRecDepth 100000 in
theorem met5_year (l : Launch) (g : MG) : MMet l g yX5_year cX5_year 3 (Option.some Jvm.ClassFile.FieldType.int) (6) [.ref (g.2.2)] (m5_year) rvI := by
  refine mj_start (by decide +kernel) rfl (Nat.le_of_ble_eq_true rfl) (fun X Q hl C K hQ hR hr => ?_)
  subst hl
  show GJ X 3 (mWo g (cx_s X).heap) Q (m5_year) 0 [(0, .ref (g.2.2))] []
  have J127 : ∀ (a1 a2 : Int), GJ X 3 (mWo g (cx_s X).heap) Q (m5_year_l127 a1 a2) 127 [(0, .ref (g.2.2)), (1, .int (iI a1)), (2, .int (iI a2))] [] := by
    intro a1 a2
    unfold m5_year_l127
    refine gj_loop (fun (s : (Int)) => [(0, .ref (g.2.2)), (1, .int (iI a1)), (2, .int (iI s))]) (a2) (fun bk127 hb127 s => ?_)
    obtain ⟨a2, rfl⟩ : ∃ z, z = s := ⟨s, rfl⟩
    show GJ X 3 (mWo g (cx_s X).heap) Q (m5_year_b127 a1 a2 bk127) 127 [(0, .ref (g.2.2)), (1, .int (iI a1)), (2, .int (iI a2))] []
    unfold m5_year_b127
    refine gj_iload_n C dX5_year_127 2 rfl ?_
    refine gj_iconst C dX5_year_128 ?_
    refine gj_iload_n C dX5_year_129 1 rfl ?_
    refine gj_imul C dX5_year_130 ?_
    refine gj_icmp_ge (tgt := 157) C dX5_year_131 (by decide) rfl rfl (fun h131 => gj_neg h131 ?_) (fun h131 => gj_pos h131 ?_)
    · refine gj_iconst C dX5_year_157 ?_
      exact mj_iret C hQ hr dX5_year_158
    · refine gj_aload_n C dX5_year_134 0 rfl ?_
      refine mj_getR (kf := 20) (j := 11) C K dX5_year_135 (by decide) (by decide) rfl (by decide) q1891 rfl ?_
      refine gj_iconst C dX5_year_138 ?_
      refine gj_iload_n C dX5_year_139 2 rfl ?_
      refine gj_iadd C dX5_year_140 ?_
      refine gj_aload_n C dX5_year_141 0 rfl ?_
      refine mj_getR (kf := 20) (j := 11) C K dX5_year_142 (by decide) (by decide) rfl (by decide) q1891 rfl ?_
      refine gj_bipush C dX5_year_145 rfl ?_
      refine gj_iload_n C dX5_year_147 2 rfl ?_
      refine gj_iadd C dX5_year_148 ?_
      refine mj_iald (j := 11) C K dX5_year_149 (by decide) rfl (fun v149 => ?_)
      refine mj_iast (j := 11) C K dX5_year_150 (by decide) (by decide) rfl ?_
      refine gj_iinc (L' := [(2, _), (0, _), (1, _)]) C dX5_year_151 2 rfl (by decide) rfl ?_
      refine gj_goto (tgt := 127) C dX5_year_154 (by decide) ?_
      exact gj_to [1, 2, 0] (hb127 (a2 + 1)) rfl
  have J106 : ∀ (a1 : Int), GJ X 3 (mWo g (cx_s X).heap) Q (m5_year_j106 a1) 106 [(0, .ref (g.2.2)), (1, .int (iI a1))] [] := by
    intro a1
    unfold m5_year_j106
    refine gj_aload_n C dX5_year_106 0 rfl ?_
    refine mj_getI (kf := 8) C K dX5_year_107 (by decide) (by decide) rfl q1879 rfl (fun v107 => ?_)
    refine gj_if_le (tgt := 118) C dX5_year_110 (by decide) (fun h110 => gj_neg h110 ?_) (fun h110 => gj_pos h110 ?_)
    · refine gj_aload_n C dX5_year_118 0 rfl ?_
      refine mj_getR (kf := 20) (j := 11) C K dX5_year_119 (by decide) (by decide) rfl (by decide) q1891 rfl ?_
      refine gj_iconst C dX5_year_122 ?_
      refine gj_iload_n C dX5_year_123 1 rfl ?_
      refine gj_nrmI ?_
      refine mj_iast (j := 11) C K dX5_year_124 (by decide) (by decide) rfl ?_
      refine gj_iconst C dX5_year_125 ?_
      refine gj_istore_n (L' := [(2, _), (0, _), (1, _)]) C dX5_year_126 (by decide) rfl ?_
      exact gj_to [1, 2, 0] (J127 a1 0) rfl
    · refine gj_aload_n C dX5_year_113 0 rfl ?_
      refine mj_getI (kf := 8) C K dX5_year_114 (by decide) (by decide) rfl q1879 rfl (fun v114 => ?_)
      exact mj_iret C hQ hr dX5_year_117
  have J11 : ∀ (a1 : Int), GJ X 3 (mWo g (cx_s X).heap) Q (m5_year_l11 a1) 11 [(0, .ref (g.2.2)), (1, .int (iI a1))] [] := by
    intro a1
    unfold m5_year_l11
    refine gj_loop (fun (s : (Int)) => [(0, .ref (g.2.2)), (1, .int (iI s))]) (a1) (fun bk11 hb11 s => ?_)
    obtain ⟨a1, rfl⟩ : ∃ z, z = s := ⟨s, rfl⟩
    show GJ X 3 (mWo g (cx_s X).heap) Q (m5_year_b11 a1 bk11) 11 [(0, .ref (g.2.2)), (1, .int (iI a1))] []
    have J97 : ∀ (a1 : Int), GJ X 3 (mWo g (cx_s X).heap) Q (m5_year_j97 a1 bk11) 97 [(0, .ref (g.2.2)), (1, .int (iI a1))] [] := by
      intro a1
      unfold m5_year_j97
      refine gj_aload_n C dX5_year_97 0 rfl ?_
      refine gj_bipush C dX5_year_98 rfl ?_
      refine mj_callVV (As := [.int (iI 59)]) (rest := []) C K dX5_year_100 (met5_takeSign (cx_l X) g 59) (lw_V q2118 q2120 qs84 q134 q2121) hy5_takeSign hR (Nat.le_of_ble_eq_true rfl) (by decide) rfl rfl (Nat.zero_le _) ?_
      refine gj_goto (tgt := 11) C dX5_year_103 (by decide) ?_
      exact gj_to [0, 1] (hb11 (a1)) rfl
    unfold m5_year_b11
    refine gj_aload_n C dX5_year_11 0 rfl ?_
    refine mj_getI (kf := 8) C K dX5_year_12 (by decide) (by decide) rfl q1879 rfl (fun v12 => ?_)
    refine gj_if_ne (tgt := 106) C dX5_year_15 (by decide) (fun h15 => gj_neg h15 ?_) (fun h15 => gj_pos h15 ?_)
    · exact gj_to [0, 1] (J106 a1) rfl
    · refine gj_aload_n C dX5_year_18 0 rfl ?_
      refine mj_getR (kf := 4) (j := 2) C K dX5_year_19 (by decide) (by decide) rfl (by decide) q1875 rfl ?_
      refine gj_aload_n C dX5_year_22 0 rfl ?_
      refine mj_getI (kf := 7) C K dX5_year_23 (by decide) (by decide) rfl q1878 rfl (fun v23 => ?_)
      refine mj_iald (j := 2) C K dX5_year_26 (by decide) rfl (fun v26 => ?_)
      refine gj_if_eq (tgt := 106) C dX5_year_27 (by decide) (fun h27 => gj_pos h27 ?_) (fun h27 => gj_neg h27 ?_)
      · exact gj_to [0, 1] (J106 a1) rfl
      · refine gj_aload_n C dX5_year_30 0 rfl ?_
        refine mj_callVI (As := []) (rest := []) C K dX5_year_31 (met5_yearWord (cx_l X) g) (lw_V q2126 q2128 qs85 q134 q2129) hy5_yearWord hR (Nat.le_of_ble_eq_true rfl) (by decide) rfl rfl (Nat.zero_le _) (fun v31 => ?_)
        refine gj_istore_n (L' := [(2, _), (0, _), (1, _)]) C dX5_year_34 (by decide) rfl ?_
        refine gj_iload_n C dX5_year_35 0 rfl ?_
        refine gj_if_ge (tgt := 47) C dX5_year_36 (by decide) (fun h36 => gj_neg h36 ?_) (fun h36 => gj_pos h36 ?_)
        · refine gj_iload_n C dX5_year_47 2 rfl ?_
          refine gj_bipush C dX5_year_48 rfl ?_
          refine gj_icmp_ne (tgt := 61) (b' := 40) C dX5_year_50 (by decide) rfl (by decide) (fun h50 => gj_neg h50 ?_) (fun h50 => gj_pos h50 ?_)
          · refine gj_aload_n C dX5_year_61 1 rfl ?_
            refine gj_dup C dX5_year_62 rfl ?_
            refine mj_getI (kf := 7) C K dX5_year_63 (by decide) (by decide) rfl q1878 rfl (fun v63 => ?_)
            refine gj_iconst C dX5_year_66 ?_
            refine gj_iadd C dX5_year_67 ?_
            refine gj_nrmI ?_
            refine mj_putI (kf := 7) C K dX5_year_68 (by decide) (by decide) rfl q1878 rfl rfl (by decide +kernel) ?_
            refine gj_aload_n C dX5_year_71 1 rfl ?_
            refine mj_getR (kf := 20) (j := 11) C K dX5_year_72 (by decide) (by decide) rfl (by decide) q1891 rfl ?_
            refine gj_bipush C dX5_year_75 rfl ?_
            refine gj_iconst C dX5_year_77 ?_
            refine gj_iload_n C dX5_year_78 2 rfl ?_
            refine gj_imul C dX5_year_79 ?_
            refine gj_iadd C dX5_year_80 ?_
            refine gj_iload_n C dX5_year_81 0 rfl ?_
            refine mj_iast (j := 11) C K dX5_year_82 (by decide) (by decide) rfl ?_
            refine gj_aload_n C dX5_year_83 1 rfl ?_
            refine gj_iload_n C dX5_year_84 0 rfl ?_
            refine gj_bipush C dX5_year_85 rfl ?_
            refine gj_iconst C dX5_year_87 ?_
            refine gj_iload_n C dX5_year_88 2 rfl ?_
            refine gj_imul C dX5_year_89 ?_
            refine gj_iadd C dX5_year_90 ?_
            refine mj_callVV (As := [.int (iI v31), .int (iI ((126 + ((3 * a1)))))]) (rest := []) C K dX5_year_91 (met5_readYear (cx_l X) g v31 (126 + ((3 * a1)))) (lw_V q2130 q2132 qs86 q134 q2133) hy5_readYear hR (Nat.le_of_ble_eq_true rfl) (by decide) rfl rfl (Nat.zero_le _) ?_
            refine gj_iinc (L' := [(1, _), (2, _), (0, _)]) C dX5_year_94 2 rfl (by decide) rfl ?_
            exact gj_to [2, 0] (J97 (a1 + 1)) rfl
          · refine gj_aload_n C dX5_year_53 1 rfl ?_
            refine gj_iconst C dX5_year_54 ?_
            refine mj_callVV (As := [.int (iI 5)]) (rest := []) C K dX5_year_55 (met5_wrong (cx_l X) g 5) (lw_V q2034 q2036 qs63 q134 q2037) hy5_wrong hR (Nat.le_of_ble_eq_true rfl) (by decide) rfl rfl (Nat.zero_le _) ?_
            refine gj_goto (tgt := 97) C dX5_year_58 (by decide) ?_
            exact gj_to [1, 2] (J97 a1) rfl
        · refine gj_aload_n C dX5_year_39 1 rfl ?_
          refine gj_iconst C dX5_year_40 ?_
          refine mj_callVV (As := [.int (iI 1)]) (rest := []) C K dX5_year_41 (met5_wrong (cx_l X) g 1) (lw_V q2034 q2036 qs63 q134 q2037) hy5_wrong hR (Nat.le_of_ble_eq_true rfl) (by decide) rfl rfl (Nat.zero_le _) ?_
          refine gj_goto (tgt := 97) C dX5_year_44 (by decide) ?_
          exact gj_to [1, 2] (J97 a1) rfl
  unfold m5_year
  refine gj_aload_n C dX5_year_0 0 rfl ?_
  refine gj_iconst C dX5_year_1 ?_
  refine mj_putI (kf := 0) C K dX5_year_2 (by decide) (by decide) rfl q1871 rfl rfl (by decide +kernel) ?_
  refine gj_aload_n C dX5_year_5 0 rfl ?_
  refine mj_callVV (As := []) (rest := []) C K dX5_year_6 (met5_cutAll (cx_l X) g) (lw_V q2007 q2009 qs60 q134 q2010) hy5_cutAll hR (Nat.le_of_ble_eq_true rfl) (by decide) rfl rfl (Nat.zero_le _) ?_
  refine gj_iconst C dX5_year_9 ?_
  refine gj_istore_n (L' := [(1, _), (0, _)]) C dX5_year_10 (by decide) rfl ?_
  exact gj_to [1, 0] (J11 0) rfl
def m5_isPerson (a1 : Int) : MM Int :=
  pite (w32 a1 < 0) (
    pbnd (pzo 0) fun _ => pret 0) (
    pbnd (m5_people) fun v6 =>
    pite (w32 a1 < w32 v6) (
      pbnd (pzo 1) fun _ => pret 1) (
      pbnd (pzo 0) fun _ => pret 0))
set_option maxHeartbeats 4000000 in
set_option maxRecDepth 100000 in
theorem met5_isPerson (l : Launch) (g : MG) (a1 : Int) : MMet l g yX5_isPerson cX5_isPerson 2 (Option.some Jvm.ClassFile.FieldType.boolean) (1) [.ref (g.2.2), .int (iI a1)] (m5_isPerson a1) rvI := by
  refine mj_start (by decide +kernel) rfl (Nat.le_of_ble_eq_true rfl) (fun X Q hl C K hQ hR hr => ?_)
  subst hl
  show GJ X 2 (mWo g (cx_s X).heap) Q (m5_isPerson a1) 0 [(0, .ref (g.2.2)), (1, .int (iI a1))] []
  unfold m5_isPerson
  refine gj_iload_n C dX5_isPerson_0 1 rfl ?_
  refine gj_if_lt (tgt := 16) C dX5_isPerson_1 (by decide) (fun h1 => gj_pos h1 ?_) (fun h1 => gj_neg h1 ?_)
  · refine gj_iconst C dX5_isPerson_16 ?_
    exact mj_zret C hQ hr dX5_isPerson_17
  · refine gj_iload_n C dX5_isPerson_4 1 rfl ?_
    refine gj_aload_n C dX5_isPerson_5 0 rfl ?_
    refine mj_callVI (As := []) (rest := [.int (iI a1)]) C K dX5_isPerson_6 (met5_people (cx_l X) g) (lw_V q1851 q1853 qs55 q134 q1854) hy5_people hR (Nat.le_of_ble_eq_true rfl) (by decide) rfl rfl (Nat.le_of_ble_eq_true rfl) (fun v6 => ?_)
    refine gj_icmp_ge (tgt := 16) C dX5_isPerson_9 (by decide) rfl rfl (fun h9 => gj_neg h9 ?_) (fun h9 => gj_pos h9 ?_)
    · refine gj_iconst C dX5_isPerson_16 ?_
      exact mj_zret C hQ hr dX5_isPerson_17
    · refine gj_iconst C dX5_isPerson_12 ?_
      refine gj_goto (tgt := 17) C dX5_isPerson_13 (by decide) ?_
      exact mj_zret C hQ hr dX5_isPerson_17
def m5_within (a0 a1 a2 : Int) : MM Int :=
  plet (if w32 a0 < w32 a1 then 0 else if w32 a2 < w32 a0 then 0 else 1) fun d15 =>
  pbnd (pzo d15) fun _ => pret d15
set_option maxHeartbeats 4000000 in
set_option maxRecDepth 100000 in
theorem met5_within (l : Launch) (g : MG) (a0 a1 a2 : Int) : MMet l g yX5_within cX5_within 3 (Option.some Jvm.ClassFile.FieldType.boolean) (0) [.int (iI a0), .int (iI a1), .int (iI a2)] (m5_within a0 a1 a2) rvI := by
  refine mj_start (by decide +kernel) rfl (Nat.le_of_ble_eq_true rfl) (fun X Q hl C K hQ hR hr => ?_)
  subst hl
  show GJ X 3 (mWo g (cx_s X).heap) Q (m5_within a0 a1 a2) 0 [(0, .int (iI a0)), (1, .int (iI a1)), (2, .int (iI a2))] []
  unfold m5_within
  refine gj_iload_n C dX5_within_0 0 rfl ?_
  refine gj_iload_n C dX5_within_1 1 rfl ?_
  refine gj_dia (J := 15) (L := [(0, .int (iI a0)), (1, .int (iI a1)), (2, .int (iI a2))]) (st := []) (fun d15 => ?_) (fun t hJ => ?_)
  · skip
    exact mj_zret C hQ hr dX5_within_15
  · refine gj_icmp_lt (tgt := 14) C dX5_within_2 (by decide) rfl rfl (fun h2 => ?_) (fun h2 => ?_)
    · refine gj_iconst C dX5_within_14 ?_
      exact (by rw [if_pos h2] at hJ; exact hJ)
    · refine gj_iload_n C dX5_within_5 0 rfl ?_
      refine gj_iload_n C dX5_within_6 2 rfl ?_
      refine gj_icmp_gt (tgt := 14) C dX5_within_7 (by decide) rfl rfl (fun h7 => ?_) (fun h7 => ?_)
      · refine gj_iconst C dX5_within_14 ?_
        exact (by rw [if_neg h2, if_pos h7] at hJ; exact hJ)
      · refine gj_iconst C dX5_within_10 ?_
        refine gj_goto (tgt := 15) C dX5_within_11 (by decide) ?_
        exact (by rw [if_neg h2, if_neg h7] at hJ; exact hJ)
def m5_person_b29 (a1 a2 : Int) (a3 a4 : Int) (bk29 : (Int × Int) → MM Int) : MM Int :=
  pbnd (m5_people) fun v32 =>
  pite (w32 a4 < w32 v32) (
    pbnd (mrd 14 1656 (28 + a4)) fun v47 =>
    plet (if w32 v47 = w32 a1 then a4 else a3) fun d58 =>
    bk29 (d58, a4 + 1)) (
    pite (w32 a2 < 2) (
      pbnd (m5_personOf a1 a2) fun v73 =>
      pret v73) (
      pret (w32 a3)))
def m5_person_l29 (a1 a2 a3 a4 : Int) : MM Int :=
  ploop (fun (s : (Int × Int)) bk29 => m5_person_b29 a1 a2 s.1 s.2 bk29) (a3, a4)
def m5_person (a1 a2 : Int) : MM Int :=
  pbnd (mput 0 0) fun _ =>
  pbnd (m5_isPerson a1) fun v7 =>
  pite (w32 v7 = 0) (
    pret (-1)) (
    pbnd (m5_within a2 0 2) fun v16 =>
    pite (w32 v16 = 0) (
      pret (-1)) (
      m5_person_l29 a1 a2 (-1) 0))
set_option maxHeartbeats 4000000 in
set_option maxRecDepth 100000 in
theorem met5_person (l : Launch) (g : MG) (a1 a2 : Int) : MMet l g yX5_person cX5_person 5 (Option.some Jvm.ClassFile.FieldType.int) (2) [.ref (g.2.2), .int (iI a1), .int (iI a2)] (m5_person a1 a2) rvI := by
  refine mj_start (by decide +kernel) rfl (Nat.le_of_ble_eq_true rfl) (fun X Q hl C K hQ hR hr => ?_)
  subst hl
  show GJ X 5 (mWo g (cx_s X).heap) Q (m5_person a1 a2) 0 [(0, .ref (g.2.2)), (1, .int (iI a1)), (2, .int (iI a2))] []
  have J29 : ∀ (a1 a2 a3 a4 : Int), GJ X 5 (mWo g (cx_s X).heap) Q (m5_person_l29 a1 a2 a3 a4) 29 [(0, .ref (g.2.2)), (1, .int (iI a1)), (2, .int (iI a2)), (3, .int (iI a3)), (4, .int (iI a4))] [] := by
    intro a1 a2 a3 a4
    unfold m5_person_l29
    refine gj_loop (fun (s : (Int × Int)) => [(0, .ref (g.2.2)), (1, .int (iI a1)), (2, .int (iI a2)), (3, .int (iI (s.1))), (4, .int (iI (s.2)))]) (a3, a4) (fun bk29 hb29 s => ?_)
    obtain ⟨a3, a4⟩ := s
    show GJ X 5 (mWo g (cx_s X).heap) Q (m5_person_b29 a1 a2 a3 a4 bk29) 29 [(0, .ref (g.2.2)), (1, .int (iI a1)), (2, .int (iI a2)), (3, .int (iI a3)), (4, .int (iI a4))] []
    unfold m5_person_b29
    refine gj_iload C dX5_person_29 4 rfl ?_
    refine gj_aload_n C dX5_person_31 0 rfl ?_
    refine mj_callVI (As := []) (rest := [.int (iI a4)]) C K dX5_person_32 (met5_people (cx_l X) g) (lw_V q1851 q1853 qs55 q134 q1854) hy5_people hR (Nat.le_of_ble_eq_true rfl) (by decide) rfl rfl (Nat.le_of_ble_eq_true rfl) (fun v32 => ?_)
    refine gj_icmp_ge (tgt := 65) C dX5_person_35 (by decide) rfl rfl (fun h35 => gj_neg h35 ?_) (fun h35 => gj_pos h35 ?_)
    · refine gj_iload_n C dX5_person_65 2 rfl ?_
      refine gj_iconst C dX5_person_66 ?_
      refine gj_icmp_ge (tgt := 79) (b' := 2) C dX5_person_67 (by decide) rfl (by decide) (fun h67 => gj_neg h67 ?_) (fun h67 => gj_pos h67 ?_)
      · refine gj_iload_n C dX5_person_79 3 rfl ?_
        refine gj_nrmI ?_
        exact mj_iret C hQ hr dX5_person_80
      · refine gj_aload_n C dX5_person_70 0 rfl ?_
        refine gj_iload_n C dX5_person_71 1 rfl ?_
        refine gj_iload_n C dX5_person_72 2 rfl ?_
        refine mj_callVI (As := [.int (iI a1), .int (iI a2)]) (rest := []) C K dX5_person_73 (met5_personOf (cx_l X) g a1 a2) (lw_V q1855 q1857 qs56 q134 q1858) hy5_personOf hR (Nat.le_of_ble_eq_true rfl) (by decide) rfl rfl (Nat.zero_le _) (fun v73 => ?_)
        refine gj_goto (tgt := 80) C dX5_person_76 (by decide) ?_
        exact mj_iret C hQ hr dX5_person_80
    · refine gj_aload_n C dX5_person_38 0 rfl ?_
      refine mj_getR (kf := 23) (j := 14) C K dX5_person_39 (by decide) (by decide) rfl (by decide) q1894 rfl ?_
      refine gj_bipush C dX5_person_42 rfl ?_
      refine gj_iload C dX5_person_44 4 rfl ?_
      refine gj_iadd C dX5_person_46 ?_
      refine mj_iald (j := 14) C K dX5_person_47 (by decide) rfl (fun v47 => ?_)
      refine gj_iload_n C dX5_person_48 1 rfl ?_
      refine gj_dia (J := 58) (L := [(0, .ref (g.2.2)), (1, .int (iI a1)), (2, .int (iI a2)), (3, .int (iI a3)), (4, .int (iI a4))]) (st := []) (fun d58 => ?_) (fun t hJ => ?_)
      · skip
        refine gj_istore_n (L' := [(3, _), (0, _), (1, _), (2, _), (4, _)]) C dX5_person_58 (by decide) rfl ?_
        refine gj_iinc (L' := [(4, _), (3, _), (0, _), (1, _), (2, _)]) C dX5_person_59 4 rfl (by decide) rfl ?_
        refine gj_goto (tgt := 29) C dX5_person_62 (by decide) ?_
        exact gj_to [2, 3, 4, 1, 0] (hb29 (d58, a4 + 1)) rfl
      · refine gj_icmp_ne (tgt := 57) C dX5_person_49 (by decide) rfl rfl (fun h49 => ?_) (fun h49 => ?_)
        · refine gj_iload_n C dX5_person_57 3 rfl ?_
          exact (by rw [if_neg h49] at hJ; exact hJ)
        · refine gj_iload C dX5_person_52 4 rfl ?_
          refine gj_goto (tgt := 58) C dX5_person_54 (by decide) ?_
          exact (by rw [if_pos h49] at hJ; exact hJ)
  unfold m5_person
  refine gj_aload_n C dX5_person_0 0 rfl ?_
  refine gj_iconst C dX5_person_1 ?_
  refine mj_putI (kf := 0) C K dX5_person_2 (by decide) (by decide) rfl q1871 rfl rfl (by decide +kernel) ?_
  refine gj_aload_n C dX5_person_5 0 rfl ?_
  refine gj_iload_n C dX5_person_6 1 rfl ?_
  refine mj_callVI (As := [.int (iI a1)]) (rest := []) C K dX5_person_7 (met5_isPerson (cx_l X) g a1) (lw_V q2138 q2140 qs87 q134 q2141) hy5_isPerson hR (Nat.le_of_ble_eq_true rfl) (by decide) rfl rfl (Nat.zero_le _) (fun v7 => ?_)
  refine gj_if_eq (tgt := 22) C dX5_person_10 (by decide) (fun h10 => gj_pos h10 ?_) (fun h10 => gj_neg h10 ?_)
  · refine gj_iconst C dX5_person_22 ?_
    exact mj_iret C hQ hr dX5_person_23
  · refine gj_iload_n C dX5_person_13 2 rfl ?_
    refine gj_iconst C dX5_person_14 ?_
    refine gj_iconst C dX5_person_15 ?_
    refine mj_callSI (As := [.int (iI a2), .int (iI 0), .int (iI 2)]) (rest := []) C K dX5_person_16 (met5_within (cx_l X) g a2 0 2) (lw_S q2142 q2143 q134 q2144) hy5s_within hR (Nat.le_of_ble_eq_true rfl) (by decide) rfl rfl (Nat.zero_le _) (fun v16 => ?_)
    refine gj_if_ne (tgt := 24) C dX5_person_19 (by decide) (fun h19 => gj_neg h19 ?_) (fun h19 => gj_pos h19 ?_)
    · refine gj_iconst C dX5_person_24 ?_
      refine gj_istore_n (L' := [(3, _), (0, _), (1, _), (2, _)]) C dX5_person_25 (by decide) rfl ?_
      refine gj_iconst C dX5_person_26 ?_
      refine gj_istore (L' := [(4, _), (3, _), (0, _), (1, _), (2, _)]) C dX5_person_27 (by decide) rfl ?_
      exact gj_to [2, 3, 4, 1, 0] (J29 a1 a2 (-1) 0) rfl
    · refine gj_iconst C dX5_person_22 ?_
      exact mj_iret C hQ hr dX5_person_23
def m5_harmOf (a1 a2 a3 : Int) : MM Int :=
  pbnd (mrd 14 1656 (((a1 + 34)) + a2)) fun v10 =>
  pbnd (mrd 14 1656 (((a1 + 4)) + a2)) fun v20 =>
  pbnd (mrd 14 1656 (((a1 + 10)) + a2)) fun v32 =>
  plet (((v10 - v20)) + v32) fun x34 =>
  pbnd (mrd 14 1656 (((a1 + 40)) + a2)) fun v46 =>
  pbnd (mrd 14 1656 (((a1 + 16)) + a2)) fun v57 =>
  plet (v46 - v57) fun x59 =>
  plet (if w32 a3 = 0 then x34 else -x34) fun d73 =>
  plet (if w32 a3 = 0 then x59 else -x59) fun d87 =>
  pbnd (mrd 14 1656 (a1 + 0)) fun v96 =>
  plet (if w32 v96 = 0 then 0 else if w32 d73 < 0 then if w32 d87 < 0 then 0 + 0 else 0 + ((5 * d87)) else if w32 d87 < 0 then d73 + 0 else d73 + ((5 * d87))) fun d129 =>
  pret (w32 d129)
set_option maxHeartbeats 4000000 in
set_option maxRecDepth 100000 in
theorem met5_harmOf (l : Launch) (g : MG) (a1 a2 a3 : Int) : MMet l g yX5_harmOf cX5_harmOf 6 (Option.some Jvm.ClassFile.FieldType.int) (0) [.ref (g.2.2), .int (iI a1), .int (iI a2), .int (iI a3)] (m5_harmOf a1 a2 a3) rvI := by
  refine mj_start (by decide +kernel) rfl (Nat.le_of_ble_eq_true rfl) (fun X Q hl C K hQ hR hr => ?_)
  subst hl
  show GJ X 6 (mWo g (cx_s X).heap) Q (m5_harmOf a1 a2 a3) 0 [(0, .ref (g.2.2)), (1, .int (iI a1)), (2, .int (iI a2)), (3, .int (iI a3))] []
  unfold m5_harmOf
  refine gj_aload_n C dX5_harmOf_0 0 rfl ?_
  refine mj_getR (kf := 23) (j := 14) C K dX5_harmOf_1 (by decide) (by decide) rfl (by decide) q1894 rfl ?_
  refine gj_iload_n C dX5_harmOf_4 1 rfl ?_
  refine gj_bipush C dX5_harmOf_5 rfl ?_
  refine gj_iadd C dX5_harmOf_7 ?_
  refine gj_iload_n C dX5_harmOf_8 2 rfl ?_
  refine gj_iadd C dX5_harmOf_9 ?_
  refine mj_iald (j := 14) C K dX5_harmOf_10 (by decide) rfl (fun v10 => ?_)
  refine gj_aload_n C dX5_harmOf_11 0 rfl ?_
  refine mj_getR (kf := 23) (j := 14) C K dX5_harmOf_12 (by decide) (by decide) rfl (by decide) q1894 rfl ?_
  refine gj_iload_n C dX5_harmOf_15 1 rfl ?_
  refine gj_iconst C dX5_harmOf_16 ?_
  refine gj_iadd C dX5_harmOf_17 ?_
  refine gj_iload_n C dX5_harmOf_18 2 rfl ?_
  refine gj_iadd C dX5_harmOf_19 ?_
  refine mj_iald (j := 14) C K dX5_harmOf_20 (by decide) rfl (fun v20 => ?_)
  refine gj_isub C dX5_harmOf_21 ?_
  refine gj_aload_n C dX5_harmOf_22 0 rfl ?_
  refine mj_getR (kf := 23) (j := 14) C K dX5_harmOf_23 (by decide) (by decide) rfl (by decide) q1894 rfl ?_
  refine gj_iload_n C dX5_harmOf_26 1 rfl ?_
  refine gj_bipush C dX5_harmOf_27 rfl ?_
  refine gj_iadd C dX5_harmOf_29 ?_
  refine gj_iload_n C dX5_harmOf_30 2 rfl ?_
  refine gj_iadd C dX5_harmOf_31 ?_
  refine mj_iald (j := 14) C K dX5_harmOf_32 (by decide) rfl (fun v32 => ?_)
  refine gj_iadd C dX5_harmOf_33 ?_
  refine gj_let (fun x34 => ?_)
  refine gj_istore (L' := [(4, _), (0, _), (1, _), (2, _), (3, _)]) C dX5_harmOf_34 (by decide) rfl ?_
  refine gj_aload_n C dX5_harmOf_36 1 rfl ?_
  refine mj_getR (kf := 23) (j := 14) C K dX5_harmOf_37 (by decide) (by decide) rfl (by decide) q1894 rfl ?_
  refine gj_iload_n C dX5_harmOf_40 2 rfl ?_
  refine gj_bipush C dX5_harmOf_41 rfl ?_
  refine gj_iadd C dX5_harmOf_43 ?_
  refine gj_iload_n C dX5_harmOf_44 3 rfl ?_
  refine gj_iadd C dX5_harmOf_45 ?_
  refine mj_iald (j := 14) C K dX5_harmOf_46 (by decide) rfl (fun v46 => ?_)
  refine gj_aload_n C dX5_harmOf_47 1 rfl ?_
  refine mj_getR (kf := 23) (j := 14) C K dX5_harmOf_48 (by decide) (by decide) rfl (by decide) q1894 rfl ?_
  refine gj_iload_n C dX5_harmOf_51 2 rfl ?_
  refine gj_bipush C dX5_harmOf_52 rfl ?_
  refine gj_iadd C dX5_harmOf_54 ?_
  refine gj_iload_n C dX5_harmOf_55 3 rfl ?_
  refine gj_iadd C dX5_harmOf_56 ?_
  refine mj_iald (j := 14) C K dX5_harmOf_57 (by decide) rfl (fun v57 => ?_)
  refine gj_isub C dX5_harmOf_58 ?_
  refine gj_let (fun x59 => ?_)
  refine gj_istore (L' := [(5, _), (4, _), (0, _), (1, _), (2, _), (3, _)]) C dX5_harmOf_59 (by decide) rfl ?_
  refine gj_iload_n C dX5_harmOf_61 5 rfl ?_
  refine gj_dia (J := 73) (L := [(5, .int (iI x59)), (4, .int (iI x34)), (0, .ref (g.2.2)), (1, .int (iI a1)), (2, .int (iI a2)), (3, .int (iI a3))]) (st := []) (fun d73 => ?_) (fun t hJ => ?_)
  · skip
    refine gj_istore (L' := [(4, _), (5, _), (0, _), (1, _), (2, _), (3, _)]) C dX5_harmOf_73 (by decide) rfl ?_
    refine gj_iload_n C dX5_harmOf_75 5 rfl ?_
    refine gj_dia (J := 87) (L := [(4, .int (iI d73)), (5, .int (iI x59)), (0, .ref (g.2.2)), (1, .int (iI a1)), (2, .int (iI a2)), (3, .int (iI a3))]) (st := []) (fun d87 => ?_) (fun t hJ => ?_)
    · skip
      refine gj_istore (L' := [(5, _), (4, _), (0, _), (1, _), (2, _), (3, _)]) C dX5_harmOf_87 (by decide) rfl ?_
      refine gj_aload_n C dX5_harmOf_89 2 rfl ?_
      refine mj_getR (kf := 23) (j := 14) C K dX5_harmOf_90 (by decide) (by decide) rfl (by decide) q1894 rfl ?_
      refine gj_iload_n C dX5_harmOf_93 3 rfl ?_
      refine gj_iconst C dX5_harmOf_94 ?_
      refine gj_iadd C dX5_harmOf_95 ?_
      refine mj_iald (j := 14) C K dX5_harmOf_96 (by decide) rfl (fun v96 => ?_)
      refine gj_dia (J := 129) (L := [(5, .int (iI d87)), (4, .int (iI d73)), (0, .ref (g.2.2)), (1, .int (iI a1)), (2, .int (iI a2)), (3, .int (iI a3))]) (st := []) (fun d129 => ?_) (fun t hJ => ?_)
      · skip
        refine gj_nrmI ?_
        exact mj_iret C hQ hr dX5_harmOf_129
      · refine gj_if_ne (tgt := 104) C dX5_harmOf_97 (by decide) (fun h97 => ?_) (fun h97 => ?_)
        · refine gj_iload C dX5_harmOf_104 1 rfl ?_
          refine gj_if_ge (tgt := 113) C dX5_harmOf_106 (by decide) (fun h106 => ?_) (fun h106 => ?_)
          · refine gj_iload C dX5_harmOf_113 1 rfl ?_
            refine gj_iload C dX5_harmOf_115 0 rfl ?_
            refine gj_if_ge (tgt := 124) C dX5_harmOf_117 (by decide) (fun h117 => ?_) (fun h117 => ?_)
            · refine gj_iconst C dX5_harmOf_124 ?_
              refine gj_iload C dX5_harmOf_125 0 rfl ?_
              refine gj_imul C dX5_harmOf_127 ?_
              refine gj_iadd C dX5_harmOf_128 ?_
              exact (by rw [if_neg h97, if_neg h106, if_neg h117] at hJ; exact hJ)
            · refine gj_iconst C dX5_harmOf_120 ?_
              refine gj_goto (tgt := 128) C dX5_harmOf_121 (by decide) ?_
              refine gj_iadd C dX5_harmOf_128 ?_
              exact (by rw [if_neg h97, if_neg h106, if_pos h117] at hJ; exact hJ)
          · refine gj_iconst C dX5_harmOf_109 ?_
            refine gj_goto (tgt := 115) C dX5_harmOf_110 (by decide) ?_
            refine gj_iload C dX5_harmOf_115 0 rfl ?_
            refine gj_if_ge (tgt := 124) C dX5_harmOf_117 (by decide) (fun h117 => ?_) (fun h117 => ?_)
            · refine gj_iconst C dX5_harmOf_124 ?_
              refine gj_iload C dX5_harmOf_125 0 rfl ?_
              refine gj_imul C dX5_harmOf_127 ?_
              refine gj_iadd C dX5_harmOf_128 ?_
              exact (by rw [if_neg h97, if_pos h106, if_neg h117] at hJ; exact hJ)
            · refine gj_iconst C dX5_harmOf_120 ?_
              refine gj_goto (tgt := 128) C dX5_harmOf_121 (by decide) ?_
              refine gj_iadd C dX5_harmOf_128 ?_
              exact (by rw [if_neg h97, if_pos h106, if_pos h117] at hJ; exact hJ)
        · refine gj_iconst C dX5_harmOf_100 ?_
          refine gj_goto (tgt := 129) C dX5_harmOf_101 (by decide) ?_
          exact (by rw [if_pos h97] at hJ; exact hJ)
    · refine gj_if_eq (tgt := 85) C dX5_harmOf_76 (by decide) (fun h76 => ?_) (fun h76 => ?_)
      · refine gj_iload C dX5_harmOf_85 1 rfl ?_
        exact (by rw [if_pos h76] at hJ; exact hJ)
      · refine gj_iload C dX5_harmOf_79 1 rfl ?_
        refine gj_ineg C dX5_harmOf_81 ?_
        refine gj_goto (tgt := 87) C dX5_harmOf_82 (by decide) ?_
        exact (by rw [if_neg h76] at hJ; exact hJ)
  · refine gj_if_eq (tgt := 71) C dX5_harmOf_62 (by decide) (fun h62 => ?_) (fun h62 => ?_)
    · refine gj_iload C dX5_harmOf_71 1 rfl ?_
      exact (by rw [if_pos h62] at hJ; exact hJ)
    · refine gj_iload C dX5_harmOf_65 1 rfl ?_
      refine gj_ineg C dX5_harmOf_67 ?_
      refine gj_goto (tgt := 73) C dX5_harmOf_68 (by decide) ?_
      exact (by rw [if_neg h62] at hJ; exact hJ)
def m5_life (a1 a2 : Int) : MM Int :=
  pbnd (mput 0 0) fun _ =>
  pbnd (m5_isPerson a1) fun v7 =>
  pite (w32 v7 = 0) (
    pret (-1)) (
    pbnd (m5_within a2 0 6) fun v17 =>
    pite (w32 v17 = 0) (
      pret (-1)) (
      pite (w32 a2 = 0) (
        pbnd (mrd 14 1656 (4 + a1)) fun v67 =>
        pret v67) (
        pite (w32 a2 = 1) (
          pbnd (mrd 14 1656 (10 + a1)) fun v77 =>
          pret v77) (
          pite (w32 a2 = 2) (
            pbnd (mrd 14 1656 (16 + a1)) fun v87 =>
            pret v87) (
            pite (w32 a2 = 3) (
              pbnd (mrd 14 1656 (22 + a1)) fun v97 =>
              pret v97) (
              pite (w32 a2 = 4) (
                pbnd (mrd 14 1656 (28 + a1)) fun v107 =>
                pret v107) (
                plet (if w32 a2 = 6 then 1 else 0) fun d123 =>
                pbnd (m5_harmOf 0 a1 d123) fun v123 =>
                pret v123)))))))
set_option maxHeartbeats 4000000 in
set_option maxRecDepth 100000 in
theorem met5_life (l : Launch) (g : MG) (a1 a2 : Int) : MMet l g yX5_life cX5_life 3 (Option.some Jvm.ClassFile.FieldType.int) (2) [.ref (g.2.2), .int (iI a1), .int (iI a2)] (m5_life a1 a2) rvI := by
  refine mj_start (by decide +kernel) rfl (Nat.le_of_ble_eq_true rfl) (fun X Q hl C K hQ hR hr => ?_)
  subst hl
  show GJ X 3 (mWo g (cx_s X).heap) Q (m5_life a1 a2) 0 [(0, .ref (g.2.2)), (1, .int (iI a1)), (2, .int (iI a2))] []
  unfold m5_life
  refine gj_aload_n C dX5_life_0 0 rfl ?_
  refine gj_iconst C dX5_life_1 ?_
  refine mj_putI (kf := 0) C K dX5_life_2 (by decide) (by decide) rfl q1871 rfl rfl (by decide +kernel) ?_
  refine gj_aload_n C dX5_life_5 0 rfl ?_
  refine gj_iload_n C dX5_life_6 1 rfl ?_
  refine mj_callVI (As := [.int (iI a1)]) (rest := []) C K dX5_life_7 (met5_isPerson (cx_l X) g a1) (lw_V q2138 q2140 qs87 q134 q2141) hy5_isPerson hR (Nat.le_of_ble_eq_true rfl) (by decide) rfl rfl (Nat.zero_le _) (fun v7 => ?_)
  refine gj_if_eq (tgt := 23) C dX5_life_10 (by decide) (fun h10 => gj_pos h10 ?_) (fun h10 => gj_neg h10 ?_)
  · refine gj_iconst C dX5_life_23 ?_
    exact mj_iret C hQ hr dX5_life_24
  · refine gj_iload_n C dX5_life_13 2 rfl ?_
    refine gj_iconst C dX5_life_14 ?_
    refine gj_bipush C dX5_life_15 rfl ?_
    refine mj_callSI (As := [.int (iI a2), .int (iI 0), .int (iI 6)]) (rest := []) C K dX5_life_17 (met5_within (cx_l X) g a2 0 6) (lw_S q2142 q2143 q134 q2144) hy5s_within hR (Nat.le_of_ble_eq_true rfl) (by decide) rfl rfl (Nat.zero_le _) (fun v17 => ?_)
    refine gj_if_ne (tgt := 25) C dX5_life_20 (by decide) (fun h20 => gj_neg h20 ?_) (fun h20 => gj_pos h20 ?_)
    · refine gj_iload_n C dX5_life_25 2 rfl ?_
      by_cases h26_0 : w32 a2 = 0
      · refine gj_pos h26_0 ?_
        refine gj_tin (tgt := 60) C 0 h26_0 dX5_life_26 (by decide) (by decide) rfl (by decide) ?_
        refine gj_aload_n C dX5_life_60 0 rfl ?_
        refine mj_getR (kf := 23) (j := 14) C K dX5_life_61 (by decide) (by decide) rfl (by decide) q1894 rfl ?_
        refine gj_iconst C dX5_life_64 ?_
        refine gj_iload_n C dX5_life_65 1 rfl ?_
        refine gj_iadd C dX5_life_66 ?_
        refine mj_iald (j := 14) C K dX5_life_67 (by decide) rfl (fun v67 => ?_)
        exact mj_iret C hQ hr dX5_life_68
      · refine gj_neg h26_0 ?_
        by_cases h26_1 : w32 a2 = 1
        · refine gj_pos h26_1 ?_
          refine gj_tin (tgt := 69) C 1 h26_1 dX5_life_26 (by decide) (by decide) rfl (by decide) ?_
          refine gj_aload_n C dX5_life_69 0 rfl ?_
          refine mj_getR (kf := 23) (j := 14) C K dX5_life_70 (by decide) (by decide) rfl (by decide) q1894 rfl ?_
          refine gj_bipush C dX5_life_73 rfl ?_
          refine gj_iload_n C dX5_life_75 1 rfl ?_
          refine gj_iadd C dX5_life_76 ?_
          refine mj_iald (j := 14) C K dX5_life_77 (by decide) rfl (fun v77 => ?_)
          exact mj_iret C hQ hr dX5_life_78
        · refine gj_neg h26_1 ?_
          by_cases h26_2 : w32 a2 = 2
          · refine gj_pos h26_2 ?_
            refine gj_tin (tgt := 79) C 2 h26_2 dX5_life_26 (by decide) (by decide) rfl (by decide) ?_
            refine gj_aload_n C dX5_life_79 0 rfl ?_
            refine mj_getR (kf := 23) (j := 14) C K dX5_life_80 (by decide) (by decide) rfl (by decide) q1894 rfl ?_
            refine gj_bipush C dX5_life_83 rfl ?_
            refine gj_iload_n C dX5_life_85 1 rfl ?_
            refine gj_iadd C dX5_life_86 ?_
            refine mj_iald (j := 14) C K dX5_life_87 (by decide) rfl (fun v87 => ?_)
            exact mj_iret C hQ hr dX5_life_88
          · refine gj_neg h26_2 ?_
            by_cases h26_3 : w32 a2 = 3
            · refine gj_pos h26_3 ?_
              refine gj_tin (tgt := 89) C 3 h26_3 dX5_life_26 (by decide) (by decide) rfl (by decide) ?_
              refine gj_aload_n C dX5_life_89 0 rfl ?_
              refine mj_getR (kf := 23) (j := 14) C K dX5_life_90 (by decide) (by decide) rfl (by decide) q1894 rfl ?_
              refine gj_bipush C dX5_life_93 rfl ?_
              refine gj_iload_n C dX5_life_95 1 rfl ?_
              refine gj_iadd C dX5_life_96 ?_
              refine mj_iald (j := 14) C K dX5_life_97 (by decide) rfl (fun v97 => ?_)
              exact mj_iret C hQ hr dX5_life_98
            · refine gj_neg h26_3 ?_
              by_cases h26_4 : w32 a2 = 4
              · refine gj_pos h26_4 ?_
                refine gj_tin (tgt := 99) C 4 h26_4 dX5_life_26 (by decide) (by decide) rfl (by decide) ?_
                refine gj_aload_n C dX5_life_99 0 rfl ?_
                refine mj_getR (kf := 23) (j := 14) C K dX5_life_100 (by decide) (by decide) rfl (by decide) q1894 rfl ?_
                refine gj_bipush C dX5_life_103 rfl ?_
                refine gj_iload_n C dX5_life_105 1 rfl ?_
                refine gj_iadd C dX5_life_106 ?_
                refine mj_iald (j := 14) C K dX5_life_107 (by decide) rfl (fun v107 => ?_)
                exact mj_iret C hQ hr dX5_life_108
              · refine gj_neg h26_4 ?_
                refine gj_tout (tgt := 109) C dX5_life_26 (by omega) (by decide) ?_
                refine gj_aload_n C dX5_life_109 0 rfl ?_
                refine gj_iconst C dX5_life_110 ?_
                refine gj_iload_n C dX5_life_111 1 rfl ?_
                refine gj_iload_n C dX5_life_112 2 rfl ?_
                refine gj_bipush C dX5_life_113 rfl ?_
                refine gj_dia (J := 123) (L := [(0, .ref (g.2.2)), (1, .int (iI a1)), (2, .int (iI a2))]) (st := [.int (iI a1), .int (iI 0), .ref (g.2.2)]) (fun d123 => ?_) (fun t hJ => ?_)
                · skip
                  refine mj_callVI (As := [.int (iI 0), .int (iI a1), .int (iI d123)]) (rest := []) C K dX5_life_123 (met5_harmOf (cx_l X) g 0 a1 d123) (lw_V q2149 q2151 qs88 q134 q2152) hy5_harmOf hR (Nat.le_of_ble_eq_true rfl) (by decide) rfl rfl (Nat.zero_le _) (fun v123 => ?_)
                  exact mj_iret C hQ hr dX5_life_126
                · refine gj_icmp_ne (tgt := 122) (b' := 6) C dX5_life_115 (by decide) rfl (by decide) (fun h115 => ?_) (fun h115 => ?_)
                  · refine gj_iconst C dX5_life_122 ?_
                    exact (by rw [if_neg h115] at hJ; exact hJ)
                  · refine gj_iconst C dX5_life_118 ?_
                    refine gj_goto (tgt := 123) C dX5_life_119 (by decide) ?_
                    exact (by rw [if_pos h115] at hJ; exact hJ)
    · refine gj_iconst C dX5_life_23 ?_
      exact mj_iret C hQ hr dX5_life_24
def m5_may (a1 a2 : Int) : MM Int :=
  pbnd (mput 0 0) fun _ =>
  pbnd (m5_isPerson a1) fun v7 =>
  pite (w32 v7 = 0) (
    pbnd (pzo 0) fun _ => pret 0) (
    pbnd (m5_isPerson a2) fun v15 =>
    pite (w32 v15 = 0) (
      pbnd (pzo 0) fun _ => pret 0) (
      pbnd (m5_mayBe a1 a2) fun v24 =>
      pite (w32 v24 = 0) (
        pbnd (pzo 0) fun _ => pret 0) (
        pbnd (pzo 1) fun _ => pret 1)))
set_option maxHeartbeats 4000000 in
set_option maxRecDepth 100000 in
theorem met5_may (l : Launch) (g : MG) (a1 a2 : Int) : MMet l g yX5_may cX5_may 3 (Option.some Jvm.ClassFile.FieldType.boolean) (2) [.ref (g.2.2), .int (iI a1), .int (iI a2)] (m5_may a1 a2) rvI := by
  refine mj_start (by decide +kernel) rfl (Nat.le_of_ble_eq_true rfl) (fun X Q hl C K hQ hR hr => ?_)
  subst hl
  show GJ X 3 (mWo g (cx_s X).heap) Q (m5_may a1 a2) 0 [(0, .ref (g.2.2)), (1, .int (iI a1)), (2, .int (iI a2))] []
  unfold m5_may
  refine gj_aload_n C dX5_may_0 0 rfl ?_
  refine gj_iconst C dX5_may_1 ?_
  refine mj_putI (kf := 0) C K dX5_may_2 (by decide) (by decide) rfl q1871 rfl rfl (by decide +kernel) ?_
  refine gj_aload_n C dX5_may_5 0 rfl ?_
  refine gj_iload_n C dX5_may_6 1 rfl ?_
  refine mj_callVI (As := [.int (iI a1)]) (rest := []) C K dX5_may_7 (met5_isPerson (cx_l X) g a1) (lw_V q2138 q2140 qs87 q134 q2141) hy5_isPerson hR (Nat.le_of_ble_eq_true rfl) (by decide) rfl rfl (Nat.zero_le _) (fun v7 => ?_)
  refine gj_if_eq (tgt := 34) C dX5_may_10 (by decide) (fun h10 => gj_pos h10 ?_) (fun h10 => gj_neg h10 ?_)
  · refine gj_iconst C dX5_may_34 ?_
    exact mj_zret C hQ hr dX5_may_35
  · refine gj_aload_n C dX5_may_13 0 rfl ?_
    refine gj_iload_n C dX5_may_14 2 rfl ?_
    refine mj_callVI (As := [.int (iI a2)]) (rest := []) C K dX5_may_15 (met5_isPerson (cx_l X) g a2) (lw_V q2138 q2140 qs87 q134 q2141) hy5_isPerson hR (Nat.le_of_ble_eq_true rfl) (by decide) rfl rfl (Nat.zero_le _) (fun v15 => ?_)
    refine gj_if_eq (tgt := 34) C dX5_may_18 (by decide) (fun h18 => gj_pos h18 ?_) (fun h18 => gj_neg h18 ?_)
    · refine gj_iconst C dX5_may_34 ?_
      exact mj_zret C hQ hr dX5_may_35
    · refine gj_aload_n C dX5_may_21 0 rfl ?_
      refine gj_iload_n C dX5_may_22 1 rfl ?_
      refine gj_iload_n C dX5_may_23 2 rfl ?_
      refine mj_callVI (As := [.int (iI a1), .int (iI a2)]) (rest := []) C K dX5_may_24 (met5_mayBe (cx_l X) g a1 a2) (lw_V q1867 q1869 qs59 q134 q1870) hy5_mayBe hR (Nat.le_of_ble_eq_true rfl) (by decide) rfl rfl (Nat.zero_le _) (fun v24 => ?_)
      refine gj_if_eq (tgt := 34) C dX5_may_27 (by decide) (fun h27 => gj_pos h27 ?_) (fun h27 => gj_neg h27 ?_)
      · refine gj_iconst C dX5_may_34 ?_
        exact mj_zret C hQ hr dX5_may_35
      · refine gj_iconst C dX5_may_30 ?_
        refine gj_goto (tgt := 35) C dX5_may_31 (by decide) ?_
        exact mj_zret C hQ hr dX5_may_35
def m5_copies_b3 (a1 a2 a3 : Int) (a4 : Int) (bk3 : (Int) → MM Unit) : MM Unit :=
  pite (w32 a4 < w32 a3) (
    pbnd (mrd 14 1656 (a1 + a4)) fun v25 =>
    pbnd (mwr 14 1656 (a2 + a4) v25) fun _ =>
    bk3 (a4 + 1)) (
    pret ())
def m5_copies_l3 (a1 a2 a3 a4 : Int) : MM Unit :=
  ploop (fun (s : (Int)) bk3 => m5_copies_b3 a1 a2 a3 s bk3) (a4)
def m5_copies (a1 a2 a3 : Int) : MM Unit :=
  m5_copies_l3 a1 a2 a3 0
set_option maxHeartbeats 4000000 in
set_option maxRecDepth 100000 in
theorem met5_copies (l : Launch) (g : MG) (a1 a2 a3 : Int) : MMet l g yX5_copies cX5_copies 5 (Option.none : Option Jvm.ClassFile.FieldType) (0) [.ref (g.2.2), .int (iI a1), .int (iI a2), .int (iI a3)] (m5_copies a1 a2 a3) rvV := by
  refine mj_start (by decide +kernel) rfl (Nat.le_of_ble_eq_true rfl) (fun X Q hl C K hQ hR hr => ?_)
  subst hl
  show GJ X 5 (mWo g (cx_s X).heap) Q (m5_copies a1 a2 a3) 0 [(0, .ref (g.2.2)), (1, .int (iI a1)), (2, .int (iI a2)), (3, .int (iI a3))] []
  have J3 : ∀ (a1 a2 a3 a4 : Int), GJ X 5 (mWo g (cx_s X).heap) Q (m5_copies_l3 a1 a2 a3 a4) 3 [(0, .ref (g.2.2)), (1, .int (iI a1)), (2, .int (iI a2)), (3, .int (iI a3)), (4, .int (iI a4))] [] := by
    intro a1 a2 a3 a4
    unfold m5_copies_l3
    refine gj_loop (fun (s : (Int)) => [(0, .ref (g.2.2)), (1, .int (iI a1)), (2, .int (iI a2)), (3, .int (iI a3)), (4, .int (iI s))]) (a4) (fun bk3 hb3 s => ?_)
    obtain ⟨a4, rfl⟩ : ∃ z, z = s := ⟨s, rfl⟩
    show GJ X 5 (mWo g (cx_s X).heap) Q (m5_copies_b3 a1 a2 a3 a4 bk3) 3 [(0, .ref (g.2.2)), (1, .int (iI a1)), (2, .int (iI a2)), (3, .int (iI a3)), (4, .int (iI a4))] []
    unfold m5_copies_b3
    refine gj_iload C dX5_copies_3 4 rfl ?_
    refine gj_iload_n C dX5_copies_5 3 rfl ?_
    refine gj_icmp_ge (tgt := 33) C dX5_copies_6 (by decide) rfl rfl (fun h6 => gj_neg h6 ?_) (fun h6 => gj_pos h6 ?_)
    · exact mj_vret C hQ hr dX5_copies_33
    · refine gj_aload_n C dX5_copies_9 0 rfl ?_
      refine mj_getR (kf := 23) (j := 14) C K dX5_copies_10 (by decide) (by decide) rfl (by decide) q1894 rfl ?_
      refine gj_iload_n C dX5_copies_13 2 rfl ?_
      refine gj_iload C dX5_copies_14 4 rfl ?_
      refine gj_iadd C dX5_copies_16 ?_
      refine gj_aload_n C dX5_copies_17 0 rfl ?_
      refine mj_getR (kf := 23) (j := 14) C K dX5_copies_18 (by decide) (by decide) rfl (by decide) q1894 rfl ?_
      refine gj_iload_n C dX5_copies_21 1 rfl ?_
      refine gj_iload C dX5_copies_22 4 rfl ?_
      refine gj_iadd C dX5_copies_24 ?_
      refine mj_iald (j := 14) C K dX5_copies_25 (by decide) rfl (fun v25 => ?_)
      refine mj_iast (j := 14) C K dX5_copies_26 (by decide) (by decide) rfl ?_
      refine gj_iinc (L' := [(4, _), (0, _), (1, _), (2, _), (3, _)]) C dX5_copies_27 4 rfl (by decide) rfl ?_
      refine gj_goto (tgt := 3) C dX5_copies_30 (by decide) ?_
      exact gj_to [1, 2, 3, 4, 0] (hb3 (a4 + 1)) rfl
  unfold m5_copies
  refine gj_iconst C dX5_copies_0 ?_
  refine gj_istore (L' := [(4, _), (0, _), (1, _), (2, _), (3, _)]) C dX5_copies_1 (by decide) rfl ?_
  exact gj_to [1, 2, 3, 4, 0] (J3 a1 a2 a3 0) rfl
def m5_keeps_j53 : MM Unit :=
  pbnd (mget 24) fun v59 =>
  pbnd (m5_copies 0 (72 * ((5 + v59))) 46) fun _ =>
  pbnd (mget 24) fun v71 =>
  pbnd (mput 24 (w32 (v71 + 1))) fun _ =>
  pret ()
def m5_keeps_b11 (a1 : Int) (bk11 : (Int) → MM Unit) : MM Unit :=
  pite (w32 a1 < 16) (
    pbnd (m5_copies (72 * ((5 + a1))) (72 * ((((5 + a1)) - 1))) 46) fun _ =>
    bk11 (a1 + 1)) (
    pbnd (mget 24) fun v45 =>
    pbnd (mput 24 (w32 (v45 - 1))) fun _ =>
    m5_keeps_j53)
def m5_keeps_l11 (a1 : Int) : MM Unit :=
  ploop (fun (s : (Int)) bk11 => m5_keeps_b11 s bk11) (a1)
def m5_keeps : MM Unit :=
  pbnd (mget 24) fun v1 =>
  pite (w32 v1 = 16) (
    m5_keeps_l11 1) (
    m5_keeps_j53)
set_option maxHeartbeats 4000000 in
set_option maxRecDepth 100000 in
theorem met5_keeps (l : Launch) (g : MG) : MMet l g yX5_keeps cX5_keeps 2 (Option.none : Option Jvm.ClassFile.FieldType) (1) [.ref (g.2.2)] (m5_keeps) rvV := by
  refine mj_start (by decide +kernel) rfl (Nat.le_of_ble_eq_true rfl) (fun X Q hl C K hQ hR hr => ?_)
  subst hl
  show GJ X 2 (mWo g (cx_s X).heap) Q (m5_keeps) 0 [(0, .ref (g.2.2))] []
  have J53 : GJ X 2 (mWo g (cx_s X).heap) Q (m5_keeps_j53) 53 [(0, .ref (g.2.2))] [] := by
    unfold m5_keeps_j53
    refine gj_aload_n C dX5_keeps_53 0 rfl ?_
    refine gj_iconst C dX5_keeps_54 ?_
    refine gj_bipush C dX5_keeps_55 rfl ?_
    refine gj_iconst C dX5_keeps_57 ?_
    refine gj_aload_n C dX5_keeps_58 0 rfl ?_
    refine mj_getI (kf := 24) C K dX5_keeps_59 (by decide) (by decide) rfl q1895 rfl (fun v59 => ?_)
    refine gj_iadd C dX5_keeps_62 ?_
    refine gj_imul C dX5_keeps_63 ?_
    refine gj_bipush C dX5_keeps_64 rfl ?_
    refine mj_callVV (As := [.int (iI 0), .int (iI ((72 * ((5 + v59))))), .int (iI 46)]) (rest := []) C K dX5_keeps_66 (met5_copies (cx_l X) g 0 (72 * ((5 + v59))) 46) (lw_V q2169 q2171 qs91 q134 q2172) hy5_copies hR (Nat.le_of_ble_eq_true rfl) (by decide) rfl rfl (Nat.zero_le _) ?_
    refine gj_aload_n C dX5_keeps_69 0 rfl ?_
    refine gj_dup C dX5_keeps_70 rfl ?_
    refine mj_getI (kf := 24) C K dX5_keeps_71 (by decide) (by decide) rfl q1895 rfl (fun v71 => ?_)
    refine gj_iconst C dX5_keeps_74 ?_
    refine gj_iadd C dX5_keeps_75 ?_
    refine gj_nrmI ?_
    refine mj_putI (kf := 24) C K dX5_keeps_76 (by decide) (by decide) rfl q1895 rfl rfl (by decide +kernel) ?_
    exact mj_vret C hQ hr dX5_keeps_79
  have J11 : ∀ (a1 : Int), GJ X 2 (mWo g (cx_s X).heap) Q (m5_keeps_l11 a1) 11 [(0, .ref (g.2.2)), (1, .int (iI a1))] [] := by
    intro a1
    unfold m5_keeps_l11
    refine gj_loop (fun (s : (Int)) => [(0, .ref (g.2.2)), (1, .int (iI s))]) (a1) (fun bk11 hb11 s => ?_)
    obtain ⟨a1, rfl⟩ : ∃ z, z = s := ⟨s, rfl⟩
    show GJ X 2 (mWo g (cx_s X).heap) Q (m5_keeps_b11 a1 bk11) 11 [(0, .ref (g.2.2)), (1, .int (iI a1))] []
    unfold m5_keeps_b11
    refine gj_iload_n C dX5_keeps_11 1 rfl ?_
    refine gj_bipush C dX5_keeps_12 rfl ?_
    refine gj_icmp_ge (tgt := 43) (b' := 16) C dX5_keeps_14 (by decide) rfl (by decide) (fun h14 => gj_neg h14 ?_) (fun h14 => gj_pos h14 ?_)
    · refine gj_aload_n C dX5_keeps_43 0 rfl ?_
      refine gj_dup C dX5_keeps_44 rfl ?_
      refine mj_getI (kf := 24) C K dX5_keeps_45 (by decide) (by decide) rfl q1895 rfl (fun v45 => ?_)
      refine gj_iconst C dX5_keeps_48 ?_
      refine gj_isub C dX5_keeps_49 ?_
      refine gj_nrmI ?_
      refine mj_putI (kf := 24) C K dX5_keeps_50 (by decide) (by decide) rfl q1895 rfl rfl (by decide +kernel) ?_
      exact gj_to [0] (J53) rfl
    · refine gj_aload_n C dX5_keeps_17 0 rfl ?_
      refine gj_bipush C dX5_keeps_18 rfl ?_
      refine gj_iconst C dX5_keeps_20 ?_
      refine gj_iload_n C dX5_keeps_21 1 rfl ?_
      refine gj_iadd C dX5_keeps_22 ?_
      refine gj_imul C dX5_keeps_23 ?_
      refine gj_bipush C dX5_keeps_24 rfl ?_
      refine gj_iconst C dX5_keeps_26 ?_
      refine gj_iload_n C dX5_keeps_27 1 rfl ?_
      refine gj_iadd C dX5_keeps_28 ?_
      refine gj_iconst C dX5_keeps_29 ?_
      refine gj_isub C dX5_keeps_30 ?_
      refine gj_imul C dX5_keeps_31 ?_
      refine gj_bipush C dX5_keeps_32 rfl ?_
      refine mj_callVV (As := [.int (iI ((72 * ((5 + a1))))), .int (iI ((72 * ((((5 + a1)) - 1))))), .int (iI 46)]) (rest := []) C K dX5_keeps_34 (met5_copies (cx_l X) g (72 * ((5 + a1))) (72 * ((((5 + a1)) - 1))) 46) (lw_V q2169 q2171 qs91 q134 q2172) hy5_copies hR (Nat.le_of_ble_eq_true rfl) (by decide) rfl rfl (Nat.zero_le _) ?_
      refine gj_iinc (L' := [(1, _), (0, _)]) C dX5_keeps_37 1 rfl (by decide) rfl ?_
      refine gj_goto (tgt := 11) C dX5_keeps_40 (by decide) ?_
      exact gj_to [1, 0] (hb11 (a1 + 1)) rfl
  unfold m5_keeps
  refine gj_aload_n C dX5_keeps_0 0 rfl ?_
  refine mj_getI (kf := 24) C K dX5_keeps_1 (by decide) (by decide) rfl q1895 rfl (fun v1 => ?_)
  refine gj_bipush C dX5_keeps_4 rfl ?_
  refine gj_icmp_ne (tgt := 53) (b' := 16) C dX5_keeps_6 (by decide) rfl (by decide) (fun h6 => gj_neg h6 ?_) (fun h6 => gj_pos h6 ?_)
  · exact gj_to [0] (J53) rfl
  · refine gj_iconst C dX5_keeps_9 ?_
    refine gj_istore_n (L' := [(1, _), (0, _)]) C dX5_keeps_10 (by decide) rfl ?_
    exact gj_to [1, 0] (J11 1) rfl
def m5_mayHide (a1 a2 a3 : Int) : MM Int :=
  pbnd (mrd 14 1656 (a1 + 0)) fun v7 =>
  pite (w32 v7 = 0) (
    pbnd (mrd 14 1656 (((a1 + 4)) + a2)) fun v20 =>
    pite (w32 v20 < w32 a3) (
      pbnd (pzo 0) fun _ => pret 0) (
      pbnd (pzo 1) fun _ => pret 1)) (
    pbnd (pzo 0) fun _ => pret 0)
set_option maxHeartbeats 4000000 in
set_option maxRecDepth 100000 in
theorem met5_mayHide (l : Launch) (g : MG) (a1 a2 a3 : Int) : MMet l g yX5_mayHide cX5_mayHide 4 (Option.some Jvm.ClassFile.FieldType.boolean) (0) [.ref (g.2.2), .int (iI a1), .int (iI a2), .int (iI a3)] (m5_mayHide a1 a2 a3) rvI := by
  refine mj_start (by decide +kernel) rfl (Nat.le_of_ble_eq_true rfl) (fun X Q hl C K hQ hR hr => ?_)
  subst hl
  show GJ X 4 (mWo g (cx_s X).heap) Q (m5_mayHide a1 a2 a3) 0 [(0, .ref (g.2.2)), (1, .int (iI a1)), (2, .int (iI a2)), (3, .int (iI a3))] []
  unfold m5_mayHide
  refine gj_aload_n C dX5_mayHide_0 0 rfl ?_
  refine mj_getR (kf := 23) (j := 14) C K dX5_mayHide_1 (by decide) (by decide) rfl (by decide) q1894 rfl ?_
  refine gj_iload_n C dX5_mayHide_4 1 rfl ?_
  refine gj_iconst C dX5_mayHide_5 ?_
  refine gj_iadd C dX5_mayHide_6 ?_
  refine mj_iald (j := 14) C K dX5_mayHide_7 (by decide) rfl (fun v7 => ?_)
  refine gj_if_ne (tgt := 29) C dX5_mayHide_8 (by decide) (fun h8 => gj_neg h8 ?_) (fun h8 => gj_pos h8 ?_)
  · refine gj_iconst C dX5_mayHide_29 ?_
    exact mj_zret C hQ hr dX5_mayHide_30
  · refine gj_aload_n C dX5_mayHide_11 0 rfl ?_
    refine mj_getR (kf := 23) (j := 14) C K dX5_mayHide_12 (by decide) (by decide) rfl (by decide) q1894 rfl ?_
    refine gj_iload_n C dX5_mayHide_15 1 rfl ?_
    refine gj_iconst C dX5_mayHide_16 ?_
    refine gj_iadd C dX5_mayHide_17 ?_
    refine gj_iload_n C dX5_mayHide_18 2 rfl ?_
    refine gj_iadd C dX5_mayHide_19 ?_
    refine mj_iald (j := 14) C K dX5_mayHide_20 (by decide) rfl (fun v20 => ?_)
    refine gj_iload_n C dX5_mayHide_21 3 rfl ?_
    refine gj_icmp_lt (tgt := 29) C dX5_mayHide_22 (by decide) rfl rfl (fun h22 => gj_pos h22 ?_) (fun h22 => gj_neg h22 ?_)
    · refine gj_iconst C dX5_mayHide_29 ?_
      exact mj_zret C hQ hr dX5_mayHide_30
    · refine gj_iconst C dX5_mayHide_25 ?_
      refine gj_goto (tgt := 30) C dX5_mayHide_26 (by decide) ?_
      exact mj_zret C hQ hr dX5_mayHide_30
def m5_hide (a1 a2 : Int) : MM Int :=
  pbnd (mput 0 0) fun _ =>
  pbnd (m5_isPerson a1) fun v7 =>
  pite (w32 v7 = 0) (
    pbnd (pzo 0) fun _ => pret 0) (
    pbnd (m5_within a2 0 999) fun v18 =>
    pite (w32 v18 = 0) (
      pbnd (pzo 0) fun _ => pret 0) (
      pbnd (m5_mayHide 0 a1 a2) fun v28 =>
      pite (w32 v28 = 0) (
        pbnd (pzo 0) fun _ => pret 0) (
        pbnd (m5_keeps) fun _ =>
        pbnd (mwr 14 1656 (22 + a1) (w32 a2)) fun _ =>
        pbnd (pzo 1) fun _ => pret 1)))
set_option maxHeartbeats 4000000 in
set_option maxRecDepth 100000 in
theorem met5_hide (l : Launch) (g : MG) (a1 a2 : Int) : MMet l g yX5_hide cX5_hide 3 (Option.some Jvm.ClassFile.FieldType.boolean) (2) [.ref (g.2.2), .int (iI a1), .int (iI a2)] (m5_hide a1 a2) rvI := by
  refine mj_start (by decide +kernel) rfl (Nat.le_of_ble_eq_true rfl) (fun X Q hl C K hQ hR hr => ?_)
  subst hl
  show GJ X 3 (mWo g (cx_s X).heap) Q (m5_hide a1 a2) 0 [(0, .ref (g.2.2)), (1, .int (iI a1)), (2, .int (iI a2))] []
  unfold m5_hide
  refine gj_aload_n C dX5_hide_0 0 rfl ?_
  refine gj_iconst C dX5_hide_1 ?_
  refine mj_putI (kf := 0) C K dX5_hide_2 (by decide) (by decide) rfl q1871 rfl rfl (by decide +kernel) ?_
  refine gj_aload_n C dX5_hide_5 0 rfl ?_
  refine gj_iload_n C dX5_hide_6 1 rfl ?_
  refine mj_callVI (As := [.int (iI a1)]) (rest := []) C K dX5_hide_7 (met5_isPerson (cx_l X) g a1) (lw_V q2138 q2140 qs87 q134 q2141) hy5_isPerson hR (Nat.le_of_ble_eq_true rfl) (by decide) rfl rfl (Nat.zero_le _) (fun v7 => ?_)
  refine gj_if_eq (tgt := 34) C dX5_hide_10 (by decide) (fun h10 => gj_pos h10 ?_) (fun h10 => gj_neg h10 ?_)
  · refine gj_iconst C dX5_hide_34 ?_
    exact mj_zret C hQ hr dX5_hide_35
  · refine gj_iload_n C dX5_hide_13 2 rfl ?_
    refine gj_iconst C dX5_hide_14 ?_
    refine gj_sipush C dX5_hide_15 rfl ?_
    refine mj_callSI (As := [.int (iI a2), .int (iI 0), .int (iI 999)]) (rest := []) C K dX5_hide_18 (met5_within (cx_l X) g a2 0 999) (lw_S q2142 q2143 q134 q2144) hy5s_within hR (Nat.le_of_ble_eq_true rfl) (by decide) rfl rfl (Nat.zero_le _) (fun v18 => ?_)
    refine gj_if_eq (tgt := 34) C dX5_hide_21 (by decide) (fun h21 => gj_pos h21 ?_) (fun h21 => gj_neg h21 ?_)
    · refine gj_iconst C dX5_hide_34 ?_
      exact mj_zret C hQ hr dX5_hide_35
    · refine gj_aload_n C dX5_hide_24 0 rfl ?_
      refine gj_iconst C dX5_hide_25 ?_
      refine gj_iload_n C dX5_hide_26 1 rfl ?_
      refine gj_iload_n C dX5_hide_27 2 rfl ?_
      refine mj_callVI (As := [.int (iI 0), .int (iI a1), .int (iI a2)]) (rest := []) C K dX5_hide_28 (met5_mayHide (cx_l X) g 0 a1 a2) (lw_V q2161 q2163 qs89 q134 q2164) hy5_mayHide hR (Nat.le_of_ble_eq_true rfl) (by decide) rfl rfl (Nat.zero_le _) (fun v28 => ?_)
      refine gj_if_ne (tgt := 36) C dX5_hide_31 (by decide) (fun h31 => gj_neg h31 ?_) (fun h31 => gj_pos h31 ?_)
      · refine gj_aload_n C dX5_hide_36 0 rfl ?_
        refine mj_callVV (As := []) (rest := []) C K dX5_hide_37 (met5_keeps (cx_l X) g) (lw_V q2165 q2167 qs90 q134 q2168) hy5_keeps hR (Nat.le_of_ble_eq_true rfl) (by decide) rfl rfl (Nat.zero_le _) ?_
        refine gj_aload_n C dX5_hide_40 0 rfl ?_
        refine mj_getR (kf := 23) (j := 14) C K dX5_hide_41 (by decide) (by decide) rfl (by decide) q1894 rfl ?_
        refine gj_bipush C dX5_hide_44 rfl ?_
        refine gj_iload_n C dX5_hide_46 1 rfl ?_
        refine gj_iadd C dX5_hide_47 ?_
        refine gj_iload_n C dX5_hide_48 2 rfl ?_
        refine gj_nrmI ?_
        refine mj_iast (j := 14) C K dX5_hide_49 (by decide) (by decide) rfl ?_
        refine gj_iconst C dX5_hide_50 ?_
        exact mj_zret C hQ hr dX5_hide_51
      · refine gj_iconst C dX5_hide_34 ?_
        exact mj_zret C hQ hr dX5_hide_35
def m5_draw (a1 : Int) : MM Int :=
  pbnd (mget 30) fun v2 =>
  pbnd (pnzl 2147483648) fun _ =>
  pbnd (mput 30 (lrem' ((((v2 * 1103515245)) + 12345)) 2147483648)) fun _ =>
  pbnd (mget 30) fun v21 =>
  pbnd (pnzl 65536) fun _ =>
  pbnd (pnzl (zi2l a1)) fun _ =>
  pret (zl2i (lrem' (ldiv' v21 65536) (zi2l a1)))
set_option maxHeartbeats 4000000 in
set_option maxRecDepth 100000 in
theorem met5_draw (l : Launch) (g : MG) (a1 : Int) : MMet l g yX5_draw cX5_draw 2 (Option.some Jvm.ClassFile.FieldType.int) (0) [.ref (g.2.2), .int (iI a1)] (m5_draw a1) rvI := by
  refine mj_start (by decide +kernel) rfl (Nat.le_of_ble_eq_true rfl) (fun X Q hl C K hQ hR hr => ?_)
  subst hl
  show GJ X 2 (mWo g (cx_s X).heap) Q (m5_draw a1) 0 [(0, .ref (g.2.2)), (1, .int (iI a1))] []
  unfold m5_draw
  refine gj_aload_n C dX5_draw_0 0 rfl ?_
  refine gj_aload_n C dX5_draw_1 0 rfl ?_
  refine mj_getL C K dX5_draw_2 q1901 (fun v2 => ?_)
  refine gj_ldc2 (z := 1103515245) C dX5_draw_5 q2185 (by decide) ?_
  refine gj_lmul C dX5_draw_8 ?_
  refine gj_ldc2 (z := 12345) C dX5_draw_9 q2186 (by decide) ?_
  refine gj_ladd C dX5_draw_12 ?_
  refine gj_ldc2 (z := 2147483648) C dX5_draw_13 q2187 (by decide) ?_
  refine gj_nzl (fun hz16 => ?_)
  refine gj_lrem C dX5_draw_16 hz16 ?_
  refine mj_putL C K dX5_draw_17 q1901 ?_
  refine gj_aload_n C dX5_draw_20 0 rfl ?_
  refine mj_getL C K dX5_draw_21 q1901 (fun v21 => ?_)
  refine gj_ldc2 (z := 65536) C dX5_draw_24 q2188 (by decide) ?_
  refine gj_nzl (fun hz27 => ?_)
  refine gj_ldiv C dX5_draw_27 hz27 ?_
  refine gj_iload_n C dX5_draw_28 1 rfl ?_
  refine gj_i2l C dX5_draw_29 ?_
  refine gj_nzl (fun hz30 => ?_)
  refine gj_lrem C dX5_draw_30 hz30 ?_
  refine gj_l2i C dX5_draw_31 ?_
  exact mj_iret C hQ hr dX5_draw_32
def m5_selfOf (a1 a2 : Int) : MM Int :=
  pbnd (mrd 16 265 a1) fun v5 =>
  pret (zand (zshr v5 ((3 * a2))) 7)
set_option maxHeartbeats 4000000 in
set_option maxRecDepth 100000 in
theorem met5_selfOf (l : Launch) (g : MG) (a1 a2 : Int) : MMet l g yX5_selfOf cX5_selfOf 3 (Option.some Jvm.ClassFile.FieldType.int) (0) [.ref (g.2.2), .int (iI a1), .int (iI a2)] (m5_selfOf a1 a2) rvI := by
  refine mj_start (by decide +kernel) rfl (Nat.le_of_ble_eq_true rfl) (fun X Q hl C K hQ hR hr => ?_)
  subst hl
  show GJ X 3 (mWo g (cx_s X).heap) Q (m5_selfOf a1 a2) 0 [(0, .ref (g.2.2)), (1, .int (iI a1)), (2, .int (iI a2))] []
  unfold m5_selfOf
  refine gj_aload_n C dX5_selfOf_0 0 rfl ?_
  refine mj_getR (kf := 27) (j := 16) C K dX5_selfOf_1 (by decide) (by decide) rfl (by decide) q1898 rfl ?_
  refine gj_iload_n C dX5_selfOf_4 1 rfl ?_
  refine mj_iald (j := 16) C K dX5_selfOf_5 (by decide) rfl (fun v5 => ?_)
  refine gj_iconst C dX5_selfOf_6 ?_
  refine gj_iload_n C dX5_selfOf_7 2 rfl ?_
  refine gj_imul C dX5_selfOf_8 ?_
  refine gj_ishr C dX5_selfOf_9 ?_
  refine gj_bipush C dX5_selfOf_10 rfl ?_
  refine gj_iand C dX5_selfOf_12 ?_
  exact mj_iret C hQ hr dX5_selfOf_13
def m5_leaves_b20 (a1 a2 : Int) (a3 : Int) (bk20 : (Int) → MM Unit) : MM Unit :=
  pbnd (m5_people) fun v22 =>
  pite (w32 a3 < w32 v22) (
    pbnd (m5_selfOf a2 a3) fun v41 =>
    pbnd (mwr 14 1656 (((a1 + 28)) + a3) v41) fun _ =>
    pbnd (mrd 14 1656 (((a1 + 4)) + a3)) fun v64 =>
    pbnd (mrd 14 1656 (((a1 + 10)) + a3)) fun v75 =>
    pbnd (mwr 14 1656 (((a1 + 34)) + a3) (w32 (v64 - v75))) fun _ =>
    pbnd (mrd 14 1656 (((a1 + 16)) + a3)) fun v98 =>
    pbnd (mwr 14 1656 (((a1 + 40)) + a3) v98) fun _ =>
    bk20 (a3 + 1)) (
    pret ())
def m5_leaves_l20 (a1 a2 a3 : Int) : MM Unit :=
  ploop (fun (s : (Int)) bk20 => m5_leaves_b20 a1 a2 s bk20) (a3)
def m5_leaves (a1 a2 : Int) : MM Unit :=
  pbnd (mwr 14 1656 (a1 + 0) 1) fun _ =>
  pbnd (mwr 14 1656 (a1 + 1) 0) fun _ =>
  m5_leaves_l20 a1 a2 0
set_option maxHeartbeats 4000000 in
set_option maxRecDepth 100000 in
theorem met5_leaves (l : Launch) (g : MG) (a1 a2 : Int) : MMet l g yX5_leaves cX5_leaves 4 (Option.none : Option Jvm.ClassFile.FieldType) (1) [.ref (g.2.2), .int (iI a1), .int (iI a2)] (m5_leaves a1 a2) rvV := by
  refine mj_start (by decide +kernel) rfl (Nat.le_of_ble_eq_true rfl) (fun X Q hl C K hQ hR hr => ?_)
  subst hl
  show GJ X 4 (mWo g (cx_s X).heap) Q (m5_leaves a1 a2) 0 [(0, .ref (g.2.2)), (1, .int (iI a1)), (2, .int (iI a2))] []
  have J20 : ∀ (a1 a2 a3 : Int), GJ X 4 (mWo g (cx_s X).heap) Q (m5_leaves_l20 a1 a2 a3) 20 [(0, .ref (g.2.2)), (1, .int (iI a1)), (2, .int (iI a2)), (3, .int (iI a3))] [] := by
    intro a1 a2 a3
    unfold m5_leaves_l20
    refine gj_loop (fun (s : (Int)) => [(0, .ref (g.2.2)), (1, .int (iI a1)), (2, .int (iI a2)), (3, .int (iI s))]) (a3) (fun bk20 hb20 s => ?_)
    obtain ⟨a3, rfl⟩ : ∃ z, z = s := ⟨s, rfl⟩
    show GJ X 4 (mWo g (cx_s X).heap) Q (m5_leaves_b20 a1 a2 a3 bk20) 20 [(0, .ref (g.2.2)), (1, .int (iI a1)), (2, .int (iI a2)), (3, .int (iI a3))] []
    unfold m5_leaves_b20
    refine gj_iload_n C dX5_leaves_20 3 rfl ?_
    refine gj_aload_n C dX5_leaves_21 0 rfl ?_
    refine mj_callVI (As := []) (rest := [.int (iI a3)]) C K dX5_leaves_22 (met5_people (cx_l X) g) (lw_V q1851 q1853 qs55 q134 q1854) hy5_people hR (Nat.le_of_ble_eq_true rfl) (by decide) rfl rfl (Nat.le_of_ble_eq_true rfl) (fun v22 => ?_)
    refine gj_icmp_ge (tgt := 106) C dX5_leaves_25 (by decide) rfl rfl (fun h25 => gj_neg h25 ?_) (fun h25 => gj_pos h25 ?_)
    · exact mj_vret C hQ hr dX5_leaves_106
    · refine gj_aload_n C dX5_leaves_28 0 rfl ?_
      refine mj_getR (kf := 23) (j := 14) C K dX5_leaves_29 (by decide) (by decide) rfl (by decide) q1894 rfl ?_
      refine gj_iload_n C dX5_leaves_32 1 rfl ?_
      refine gj_bipush C dX5_leaves_33 rfl ?_
      refine gj_iadd C dX5_leaves_35 ?_
      refine gj_iload_n C dX5_leaves_36 3 rfl ?_
      refine gj_iadd C dX5_leaves_37 ?_
      refine gj_aload_n C dX5_leaves_38 0 rfl ?_
      refine gj_iload_n C dX5_leaves_39 2 rfl ?_
      refine gj_iload_n C dX5_leaves_40 3 rfl ?_
      refine mj_callVI (As := [.int (iI a2), .int (iI a3)]) (rest := [.int (iI ((((a1 + 28)) + a3))), .ref (g.2.2 + 14)]) C K dX5_leaves_41 (met5_selfOf (cx_l X) g a2 a3) (lw_V q2193 q2195 qs95 q134 q2196) hy5_selfOf hR (Nat.le_of_ble_eq_true rfl) (by decide) rfl rfl (Nat.le_of_ble_eq_true rfl) (fun v41 => ?_)
      refine mj_iast (j := 14) C K dX5_leaves_44 (by decide) (by decide) rfl ?_
      refine gj_aload_n C dX5_leaves_45 0 rfl ?_
      refine mj_getR (kf := 23) (j := 14) C K dX5_leaves_46 (by decide) (by decide) rfl (by decide) q1894 rfl ?_
      refine gj_iload_n C dX5_leaves_49 1 rfl ?_
      refine gj_bipush C dX5_leaves_50 rfl ?_
      refine gj_iadd C dX5_leaves_52 ?_
      refine gj_iload_n C dX5_leaves_53 3 rfl ?_
      refine gj_iadd C dX5_leaves_54 ?_
      refine gj_aload_n C dX5_leaves_55 0 rfl ?_
      refine mj_getR (kf := 23) (j := 14) C K dX5_leaves_56 (by decide) (by decide) rfl (by decide) q1894 rfl ?_
      refine gj_iload_n C dX5_leaves_59 1 rfl ?_
      refine gj_iconst C dX5_leaves_60 ?_
      refine gj_iadd C dX5_leaves_61 ?_
      refine gj_iload_n C dX5_leaves_62 3 rfl ?_
      refine gj_iadd C dX5_leaves_63 ?_
      refine mj_iald (j := 14) C K dX5_leaves_64 (by decide) rfl (fun v64 => ?_)
      refine gj_aload_n C dX5_leaves_65 0 rfl ?_
      refine mj_getR (kf := 23) (j := 14) C K dX5_leaves_66 (by decide) (by decide) rfl (by decide) q1894 rfl ?_
      refine gj_iload_n C dX5_leaves_69 1 rfl ?_
      refine gj_bipush C dX5_leaves_70 rfl ?_
      refine gj_iadd C dX5_leaves_72 ?_
      refine gj_iload_n C dX5_leaves_73 3 rfl ?_
      refine gj_iadd C dX5_leaves_74 ?_
      refine mj_iald (j := 14) C K dX5_leaves_75 (by decide) rfl (fun v75 => ?_)
      refine gj_isub C dX5_leaves_76 ?_
      refine gj_nrmI ?_
      refine mj_iast (j := 14) C K dX5_leaves_77 (by decide) (by decide) rfl ?_
      refine gj_aload_n C dX5_leaves_78 0 rfl ?_
      refine mj_getR (kf := 23) (j := 14) C K dX5_leaves_79 (by decide) (by decide) rfl (by decide) q1894 rfl ?_
      refine gj_iload_n C dX5_leaves_82 1 rfl ?_
      refine gj_bipush C dX5_leaves_83 rfl ?_
      refine gj_iadd C dX5_leaves_85 ?_
      refine gj_iload_n C dX5_leaves_86 3 rfl ?_
      refine gj_iadd C dX5_leaves_87 ?_
      refine gj_aload_n C dX5_leaves_88 0 rfl ?_
      refine mj_getR (kf := 23) (j := 14) C K dX5_leaves_89 (by decide) (by decide) rfl (by decide) q1894 rfl ?_
      refine gj_iload_n C dX5_leaves_92 1 rfl ?_
      refine gj_bipush C dX5_leaves_93 rfl ?_
      refine gj_iadd C dX5_leaves_95 ?_
      refine gj_iload_n C dX5_leaves_96 3 rfl ?_
      refine gj_iadd C dX5_leaves_97 ?_
      refine mj_iald (j := 14) C K dX5_leaves_98 (by decide) rfl (fun v98 => ?_)
      refine mj_iast (j := 14) C K dX5_leaves_99 (by decide) (by decide) rfl ?_
      refine gj_iinc (L' := [(3, _), (0, _), (1, _), (2, _)]) C dX5_leaves_100 3 rfl (by decide) rfl ?_
      refine gj_goto (tgt := 20) C dX5_leaves_103 (by decide) ?_
      exact gj_to [1, 2, 3, 0] (hb20 (a3 + 1)) rfl
  unfold m5_leaves
  refine gj_aload_n C dX5_leaves_0 0 rfl ?_
  refine mj_getR (kf := 23) (j := 14) C K dX5_leaves_1 (by decide) (by decide) rfl (by decide) q1894 rfl ?_
  refine gj_iload_n C dX5_leaves_4 1 rfl ?_
  refine gj_iconst C dX5_leaves_5 ?_
  refine gj_iadd C dX5_leaves_6 ?_
  refine gj_iconst C dX5_leaves_7 ?_
  refine mj_iast (j := 14) C K dX5_leaves_8 (by decide) (by decide) rfl ?_
  refine gj_aload_n C dX5_leaves_9 0 rfl ?_
  refine mj_getR (kf := 23) (j := 14) C K dX5_leaves_10 (by decide) (by decide) rfl (by decide) q1894 rfl ?_
  refine gj_iload_n C dX5_leaves_13 1 rfl ?_
  refine gj_iconst C dX5_leaves_14 ?_
  refine gj_iadd C dX5_leaves_15 ?_
  refine gj_iconst C dX5_leaves_16 ?_
  refine mj_iast (j := 14) C K dX5_leaves_17 (by decide) (by decide) rfl ?_
  refine gj_iconst C dX5_leaves_18 ?_
  refine gj_istore_n (L' := [(3, _), (0, _), (1, _), (2, _)]) C dX5_leaves_19 (by decide) rfl ?_
  exact gj_to [1, 2, 3, 0] (J20 a1 a2 0) rfl
def m5_mayLeave (a1 : Int) : MM Int :=
  pbnd (mrd 14 1656 (a1 + 0)) fun v7 =>
  pite (w32 v7 = 0) (
    pbnd (mget 29) fun v12 =>
    pite (0 < w32 v12) (
      pbnd (pzo 1) fun _ => pret 1) (
      pbnd (pzo 0) fun _ => pret 0)) (
    pbnd (pzo 0) fun _ => pret 0)
set_option maxHeartbeats 4000000 in
set_option maxRecDepth 100000 in
theorem met5_mayLeave (l : Launch) (g : MG) (a1 : Int) : MMet l g yX5_mayLeave cX5_mayLeave 2 (Option.some Jvm.ClassFile.FieldType.boolean) (0) [.ref (g.2.2), .int (iI a1)] (m5_mayLeave a1) rvI := by
  refine mj_start (by decide +kernel) rfl (Nat.le_of_ble_eq_true rfl) (fun X Q hl C K hQ hR hr => ?_)
  subst hl
  show GJ X 2 (mWo g (cx_s X).heap) Q (m5_mayLeave a1) 0 [(0, .ref (g.2.2)), (1, .int (iI a1))] []
  unfold m5_mayLeave
  refine gj_aload_n C dX5_mayLeave_0 0 rfl ?_
  refine mj_getR (kf := 23) (j := 14) C K dX5_mayLeave_1 (by decide) (by decide) rfl (by decide) q1894 rfl ?_
  refine gj_iload_n C dX5_mayLeave_4 1 rfl ?_
  refine gj_iconst C dX5_mayLeave_5 ?_
  refine gj_iadd C dX5_mayLeave_6 ?_
  refine mj_iald (j := 14) C K dX5_mayLeave_7 (by decide) rfl (fun v7 => ?_)
  refine gj_if_ne (tgt := 22) C dX5_mayLeave_8 (by decide) (fun h8 => gj_neg h8 ?_) (fun h8 => gj_pos h8 ?_)
  · refine gj_iconst C dX5_mayLeave_22 ?_
    exact mj_zret C hQ hr dX5_mayLeave_23
  · refine gj_aload_n C dX5_mayLeave_11 0 rfl ?_
    refine mj_getI (kf := 29) C K dX5_mayLeave_12 (by decide) (by decide) rfl q1900 rfl (fun v12 => ?_)
    refine gj_if_le (tgt := 22) C dX5_mayLeave_15 (by decide) (fun h15 => gj_neg h15 ?_) (fun h15 => gj_pos h15 ?_)
    · refine gj_iconst C dX5_mayLeave_22 ?_
      exact mj_zret C hQ hr dX5_mayLeave_23
    · refine gj_iconst C dX5_mayLeave_18 ?_
      refine gj_goto (tgt := 23) C dX5_mayLeave_19 (by decide) ?_
      exact mj_zret C hQ hr dX5_mayLeave_23
def m5_lot (a1 : Int) : MM Int :=
  pbnd (mput 0 0) fun _ =>
  pbnd (m5_within a1 0 9999) fun v10 =>
  pite (w32 v10 = 0) (
    pret (-1)) (
    pbnd (m5_mayLeave 0) fun v18 =>
    pite (w32 v18 = 0) (
      pret (-1)) (
      pbnd (m5_keeps) fun _ =>
      pbnd (mput 30 (w64 (zi2l a1))) fun _ =>
      pbnd (mget 29) fun v38 =>
      pbnd (m5_draw v38) fun v41 =>
      pbnd (m5_leaves 0 v41) fun _ =>
      pret v41))
set_option maxHeartbeats 4000000 in
set_option maxRecDepth 100000 in
theorem met5_lot (l : Launch) (g : MG) (a1 : Int) : MMet l g yX5_lot cX5_lot 3 (Option.some Jvm.ClassFile.FieldType.int) (2) [.ref (g.2.2), .int (iI a1)] (m5_lot a1) rvI := by
  refine mj_start (by decide +kernel) rfl (Nat.le_of_ble_eq_true rfl) (fun X Q hl C K hQ hR hr => ?_)
  subst hl
  show GJ X 3 (mWo g (cx_s X).heap) Q (m5_lot a1) 0 [(0, .ref (g.2.2)), (1, .int (iI a1))] []
  unfold m5_lot
  refine gj_aload_n C dX5_lot_0 0 rfl ?_
  refine gj_iconst C dX5_lot_1 ?_
  refine mj_putI (kf := 0) C K dX5_lot_2 (by decide) (by decide) rfl q1871 rfl rfl (by decide +kernel) ?_
  refine gj_iload_n C dX5_lot_5 1 rfl ?_
  refine gj_iconst C dX5_lot_6 ?_
  refine gj_sipush C dX5_lot_7 rfl ?_
  refine mj_callSI (As := [.int (iI a1), .int (iI 0), .int (iI 9999)]) (rest := []) C K dX5_lot_10 (met5_within (cx_l X) g a1 0 9999) (lw_S q2142 q2143 q134 q2144) hy5s_within hR (Nat.le_of_ble_eq_true rfl) (by decide) rfl rfl (Nat.zero_le _) (fun v10 => ?_)
  refine gj_if_eq (tgt := 24) C dX5_lot_13 (by decide) (fun h13 => gj_pos h13 ?_) (fun h13 => gj_neg h13 ?_)
  · refine gj_iconst C dX5_lot_24 ?_
    exact mj_iret C hQ hr dX5_lot_25
  · refine gj_aload_n C dX5_lot_16 0 rfl ?_
    refine gj_iconst C dX5_lot_17 ?_
    refine mj_callVI (As := [.int (iI 0)]) (rest := []) C K dX5_lot_18 (met5_mayLeave (cx_l X) g 0) (lw_V q2177 q2179 qs92 q134 q2180) hy5_mayLeave hR (Nat.le_of_ble_eq_true rfl) (by decide) rfl rfl (Nat.zero_le _) (fun v18 => ?_)
    refine gj_if_ne (tgt := 26) C dX5_lot_21 (by decide) (fun h21 => gj_neg h21 ?_) (fun h21 => gj_pos h21 ?_)
    · refine gj_aload_n C dX5_lot_26 0 rfl ?_
      refine mj_callVV (As := []) (rest := []) C K dX5_lot_27 (met5_keeps (cx_l X) g) (lw_V q2165 q2167 qs90 q134 q2168) hy5_keeps hR (Nat.le_of_ble_eq_true rfl) (by decide) rfl rfl (Nat.zero_le _) ?_
      refine gj_aload_n C dX5_lot_30 0 rfl ?_
      refine gj_iload_n C dX5_lot_31 1 rfl ?_
      refine gj_i2l C dX5_lot_32 ?_
      refine gj_nrmL ?_
      refine mj_putL C K dX5_lot_33 q1901 ?_
      refine gj_aload_n C dX5_lot_36 0 rfl ?_
      refine gj_aload_n C dX5_lot_37 0 rfl ?_
      refine mj_getI (kf := 29) C K dX5_lot_38 (by decide) (by decide) rfl q1900 rfl (fun v38 => ?_)
      refine mj_callVI (As := [.int (iI v38)]) (rest := []) C K dX5_lot_41 (met5_draw (cx_l X) g v38) (lw_V q2181 q2183 qs93 q134 q2184) hy5_draw hR (Nat.le_of_ble_eq_true rfl) (by decide) rfl rfl (Nat.zero_le _) (fun v41 => ?_)
      refine gj_istore_n (L' := [(2, _), (0, _), (1, _)]) C dX5_lot_44 (by decide) rfl ?_
      refine gj_aload_n C dX5_lot_45 1 rfl ?_
      refine gj_iconst C dX5_lot_46 ?_
      refine gj_iload_n C dX5_lot_47 0 rfl ?_
      refine mj_callVV (As := [.int (iI 0), .int (iI v41)]) (rest := []) C K dX5_lot_48 (met5_leaves (cx_l X) g 0 v41) (lw_V q2189 q2191 qs94 q134 q2192) hy5_leaves hR (Nat.le_of_ble_eq_true rfl) (by decide) rfl rfl (Nat.zero_le _) ?_
      refine gj_iload_n C dX5_lot_51 0 rfl ?_
      exact mj_iret C hQ hr dX5_lot_52
    · refine gj_iconst C dX5_lot_24 ?_
      exact mj_iret C hQ hr dX5_lot_25
