/-! THE MODEL's CONSTRUCTOR: printed by genx.py -/
theorem hyx_X5_init : yX5_init.cls ≠ "java/lang/invoke/MethodHandle" ∧ yX5_init.cls ≠ "java/lang/invoke/VarHandle" ∧ (parseMethodDescriptor yX5_init.desc).map (fun d => d.parameters.length) = some 0 := by decide +kernel
def x5_init (a0 : Option Nat) : PT Hp Unit :=
  pbnd (xnn a0) fun _ =>
  pbnd (xnewa 40 1000) fun v8 =>
  pbnd (xpR a0 0 1 v8) fun _ =>
  pbnd (xnewa 40 1002) fun v17 =>
  pbnd (xpR a0 0 4 v17) fun _ =>
  pbnd (xnewa 40 1002) fun v26 =>
  pbnd (xpR a0 0 5 v26) fun _ =>
  pbnd (xnewa 41 1002) fun v35 =>
  pbnd (xpR a0 0 6 v35) fun _ =>
  pbnd (xnewa 41 27) fun v43 =>
  pbnd (xst v43 41 0 1119812451) fun _ =>
  pbnd (xst v43 41 1 36179019) fun _ =>
  pbnd (xst v43 41 2 31075639) fun _ =>
  pbnd (xst v43 41 3 209551) fun _ =>
  pbnd (xst v43 41 4 426245) fun _ =>
  pbnd (xst v43 41 5 2793) fun _ =>
  pbnd (xst v43 41 6 975001) fun _ =>
  pbnd (xst v43 41 7 1347794357) fun _ =>
  pbnd (xst v43 41 8 24636691) fun _ =>
  pbnd (xst v43 41 9 375665) fun _ =>
  pbnd (xst v43 41 10 1178051) fun _ =>
  pbnd (xst v43 41 11 417698) fun _ =>
  pbnd (xst v43 41 12 17003) fun _ =>
  pbnd (xst v43 41 13 993947) fun _ =>
  pbnd (xst v43 41 14 5538) fun _ =>
  pbnd (xst v43 41 15 30596128) fun _ =>
  pbnd (xst v43 41 16 24846184) fun _ =>
  pbnd (xst v43 41 17 37900956) fun _ =>
  pbnd (xst v43 41 18 24449544) fun _ =>
  pbnd (xst v43 41 19 19741) fun _ =>
  pbnd (xst v43 41 20 1891) fun _ =>
  pbnd (xst v43 41 21 573) fun _ =>
  pbnd (xst v43 41 22 25143264) fun _ =>
  pbnd (xst v43 41 23 791471) fun _ =>
  pbnd (xst v43 41 24 716044) fun _ =>
  pbnd (xst v43 41 25 53840) fun _ =>
  pbnd (xst v43 41 26 38396496) fun _ =>
  pbnd (xpR a0 0 9 v43) fun _ =>
  pbnd (xnewa 40 160) fun v235 =>
  pbnd (xpR a0 0 10 v235) fun _ =>
  pbnd (xnewa 40 2200) fun v244 =>
  pbnd (xpR a0 0 11 v244) fun _ =>
  pbnd (xnewa 40 2200) fun v253 =>
  pbnd (xpR a0 0 12 v253) fun _ =>
  pbnd (xnewa 41 6) fun v261 =>
  pbnd (xpR a0 0 14 v261) fun _ =>
  pbnd (xnewa 41 6) fun v269 =>
  pbnd (xpR a0 0 15 v269) fun _ =>
  pbnd (xnewa 40 250) fun v278 =>
  pbnd (xpR a0 0 20 v278) fun _ =>
  pbnd (xnewa 40 5) fun v285 =>
  pbnd (xpR a0 0 21 v285) fun _ =>
  pbnd (xnewa 40 1100) fun v294 =>
  pbnd (xpR a0 0 22 v294) fun _ =>
  pbnd (xnewa 40 1656) fun v303 =>
  pbnd (xpR a0 0 23 v303) fun _ =>
  pbnd (xnewa 42 4) fun v310 =>
  pbnd (xpR a0 0 25 v310) fun _ =>
  pbnd (xnewa 40 265) fun v319 =>
  pbnd (xpR a0 0 27 v319) fun _ =>
  pbnd (xnewa 40 6) fun v327 =>
  pbnd (xpR a0 0 28 v327) fun _ =>
  pbnd (xnewa 40 7) fun v335 =>
  pbnd (xpR a0 0 31 v335) fun _ =>
  pbnd (xnewa 40 7) fun v343 =>
  pbnd (xpR a0 0 32 v343) fun _ =>
  pbnd (xnewa 42 36) fun v351 =>
  pbnd (xpR a0 0 36 v351) fun _ =>
  pbnd (xnewa 40 6) fun v359 =>
  pbnd (xpR a0 0 37 v359) fun _ =>
  pbnd (xnewa 40 6) fun v367 =>
  pbnd (xpR a0 0 38 v367) fun _ =>
  pbnd (xnewa 40 1590) fun v376 =>
  pbnd (xpR a0 0 40 v376) fun _ =>
  pbnd (xnewa 42 265) fun v385 =>
  pbnd (xpR a0 0 41 v385) fun _ =>
  pbnd (xM a0 (m5_standsAsAlways 0)) fun _ =>
  pbnd (xM a0 (m5_begins)) fun _ =>
  pret ()
set_option maxHeartbeats 4000000 in
set_option maxRecDepth 100000 in
theorem mx5_init (l : Launch) (g : XG) (a0 : Option Nat) : XMet l g yX5_init cX5_init 1 (Option.none : Option Jvm.ClassFile.FieldType) (23) [rv g a0] (x5_init a0) rvV := by
  refine gx_start (by decide +kernel) (by have e := lg_sl_len [rv g a0]; simp only [List.map_cons, List.map_nil, List.sum_cons, List.sum_nil, rv_cat, cat_int, cat_long] at e; omega) (fun X Q σ0 hl C E hQ hR hr hnm => ?_)
  subst hl
  rw [show lv_args 0 [rv g a0] = [(0, rv g a0)] from by simp [lv_args, rv_cat, cat_int, cat_long]]
  show GJ X 1 (xWo g σ0 (cx_s X).heap) Q (x5_init a0) 0 [(0, rv g a0)] []
  unfold x5_init
  refine gx_aload_n C dX5_init_0 0 rfl ?_
  refine gx_objinit C E dX5_init_1 q1811 q180 q181 hR (Nat.le_of_ble_eq_true rfl) (Nat.zero_le _) ?_
  refine gx_aload_n C dX5_init_4 0 rfl ?_
  refine gj_sipush C dX5_init_5 rfl ?_
  refine gx_newa (t0 := 0) C E dX5_init_8 (by decide) rfl q340 (by decide) rfl (fun v8 => ?_)
  refine gx_pR (O := "BorrowedLivesModel") (nm := "tape") (ds := "[I") (fin := true) (ty := (.array .int)) C E dX5_init_10 (by decide +kernel) (Or.inl q1872) (fun _ h => h) (fun _ => ⟨hnm, rfl⟩) (by decide +kernel) (by decide) ?_
  refine gx_aload_n C dX5_init_13 0 rfl ?_
  refine gj_sipush C dX5_init_14 rfl ?_
  refine gx_newa (t0 := 0) C E dX5_init_17 (by decide) rfl q340 (by decide) rfl (fun v17 => ?_)
  refine gx_pR (O := "BorrowedLivesModel") (nm := "sort") (ds := "[I") (fin := true) (ty := (.array .int)) C E dX5_init_19 (by decide +kernel) (Or.inl q1875) (fun _ h => h) (fun _ => ⟨hnm, rfl⟩) (by decide +kernel) (by decide) ?_
  refine gx_aload_n C dX5_init_22 0 rfl ?_
  refine gj_sipush C dX5_init_23 rfl ?_
  refine gx_newa (t0 := 0) C E dX5_init_26 (by decide) rfl q340 (by decide) rfl (fun v26 => ?_)
  refine gx_pR (O := "BorrowedLivesModel") (nm := "place") (ds := "[I") (fin := true) (ty := (.array .int)) C E dX5_init_28 (by decide +kernel) (Or.inl q1876) (fun _ h => h) (fun _ => ⟨hnm, rfl⟩) (by decide +kernel) (by decide) ?_
  refine gx_aload_n C dX5_init_31 0 rfl ?_
  refine gj_sipush C dX5_init_32 rfl ?_
  refine gx_newa (t0 := 1) C E dX5_init_35 (by decide) rfl q2001 (by decide) rfl (fun v35 => ?_)
  refine gx_pR (O := "BorrowedLivesModel") (nm := "value") (ds := "[J") (fin := true) (ty := (.array .long)) C E dX5_init_37 (by decide +kernel) (Or.inl q1877) (fun _ h => h) (fun _ => ⟨hnm, rfl⟩) (by decide +kernel) (by decide) ?_
  refine gx_aload_n C dX5_init_40 0 rfl ?_
  refine gj_bipush C dX5_init_41 rfl ?_
  refine gx_newa (t0 := 1) C E dX5_init_43 (by decide) rfl q2001 (by decide) rfl (fun v43 => ?_)
  refine gx_dup C dX5_init_45 ?_
  refine gj_iconst C dX5_init_46 ?_
  refine gj_ldc2 (z := 1119812451) C dX5_init_47 q1812 (by decide) ?_
  refine gx_last C E dX5_init_50 ?_
  refine gx_dup C dX5_init_51 ?_
  refine gj_iconst C dX5_init_52 ?_
  refine gj_ldc2 (z := 36179019) C dX5_init_53 q1813 (by decide) ?_
  refine gx_last C E dX5_init_56 ?_
  refine gx_dup C dX5_init_57 ?_
  refine gj_iconst C dX5_init_58 ?_
  refine gj_ldc2 (z := 31075639) C dX5_init_59 q1814 (by decide) ?_
  refine gx_last C E dX5_init_62 ?_
  refine gx_dup C dX5_init_63 ?_
  refine gj_iconst C dX5_init_64 ?_
  refine gj_ldc2 (z := 209551) C dX5_init_65 q1815 (by decide) ?_
  refine gx_last C E dX5_init_68 ?_
  refine gx_dup C dX5_init_69 ?_
  refine gj_iconst C dX5_init_70 ?_
  refine gj_ldc2 (z := 426245) C dX5_init_71 q1816 (by decide) ?_
  refine gx_last C E dX5_init_74 ?_
  refine gx_dup C dX5_init_75 ?_
  refine gj_iconst C dX5_init_76 ?_
  refine gj_ldc2 (z := 2793) C dX5_init_77 q1817 (by decide) ?_
  refine gx_last C E dX5_init_80 ?_
  refine gx_dup C dX5_init_81 ?_
  refine gj_bipush C dX5_init_82 rfl ?_
  refine gj_ldc2 (z := 975001) C dX5_init_84 q1818 (by decide) ?_
  refine gx_last C E dX5_init_87 ?_
  refine gx_dup C dX5_init_88 ?_
  refine gj_bipush C dX5_init_89 rfl ?_
  refine gj_ldc2 (z := 1347794357) C dX5_init_91 q1819 (by decide) ?_
  refine gx_last C E dX5_init_94 ?_
  refine gx_dup C dX5_init_95 ?_
  refine gj_bipush C dX5_init_96 rfl ?_
  refine gj_ldc2 (z := 24636691) C dX5_init_98 q1820 (by decide) ?_
  refine gx_last C E dX5_init_101 ?_
  refine gx_dup C dX5_init_102 ?_
  refine gj_bipush C dX5_init_103 rfl ?_
  refine gj_ldc2 (z := 375665) C dX5_init_105 q1821 (by decide) ?_
  refine gx_last C E dX5_init_108 ?_
  refine gx_dup C dX5_init_109 ?_
  refine gj_bipush C dX5_init_110 rfl ?_
  refine gj_ldc2 (z := 1178051) C dX5_init_112 q1822 (by decide) ?_
  refine gx_last C E dX5_init_115 ?_
  refine gx_dup C dX5_init_116 ?_
  refine gj_bipush C dX5_init_117 rfl ?_
  refine gj_ldc2 (z := 417698) C dX5_init_119 q1823 (by decide) ?_
  refine gx_last C E dX5_init_122 ?_
  refine gx_dup C dX5_init_123 ?_
  refine gj_bipush C dX5_init_124 rfl ?_
  refine gj_ldc2 (z := 17003) C dX5_init_126 q1824 (by decide) ?_
  refine gx_last C E dX5_init_129 ?_
  refine gx_dup C dX5_init_130 ?_
  refine gj_bipush C dX5_init_131 rfl ?_
  refine gj_ldc2 (z := 993947) C dX5_init_133 q1825 (by decide) ?_
  refine gx_last C E dX5_init_136 ?_
  refine gx_dup C dX5_init_137 ?_
  refine gj_bipush C dX5_init_138 rfl ?_
  refine gj_ldc2 (z := 5538) C dX5_init_140 q1826 (by decide) ?_
  refine gx_last C E dX5_init_143 ?_
  refine gx_dup C dX5_init_144 ?_
  refine gj_bipush C dX5_init_145 rfl ?_
  refine gj_ldc2 (z := 30596128) C dX5_init_147 q1827 (by decide) ?_
  refine gx_last C E dX5_init_150 ?_
  refine gx_dup C dX5_init_151 ?_
  refine gj_bipush C dX5_init_152 rfl ?_
  refine gj_ldc2 (z := 24846184) C dX5_init_154 q1828 (by decide) ?_
  refine gx_last C E dX5_init_157 ?_
  refine gx_dup C dX5_init_158 ?_
  refine gj_bipush C dX5_init_159 rfl ?_
  refine gj_ldc2 (z := 37900956) C dX5_init_161 q1829 (by decide) ?_
  refine gx_last C E dX5_init_164 ?_
  refine gx_dup C dX5_init_165 ?_
  refine gj_bipush C dX5_init_166 rfl ?_
  refine gj_ldc2 (z := 24449544) C dX5_init_168 q1830 (by decide) ?_
  refine gx_last C E dX5_init_171 ?_
  refine gx_dup C dX5_init_172 ?_
  refine gj_bipush C dX5_init_173 rfl ?_
  refine gj_ldc2 (z := 19741) C dX5_init_175 q1831 (by decide) ?_
  refine gx_last C E dX5_init_178 ?_
  refine gx_dup C dX5_init_179 ?_
  refine gj_bipush C dX5_init_180 rfl ?_
  refine gj_ldc2 (z := 1891) C dX5_init_182 q1832 (by decide) ?_
  refine gx_last C E dX5_init_185 ?_
  refine gx_dup C dX5_init_186 ?_
  refine gj_bipush C dX5_init_187 rfl ?_
  refine gj_ldc2 (z := 573) C dX5_init_189 q1833 (by decide) ?_
  refine gx_last C E dX5_init_192 ?_
  refine gx_dup C dX5_init_193 ?_
  refine gj_bipush C dX5_init_194 rfl ?_
  refine gj_ldc2 (z := 25143264) C dX5_init_196 q1834 (by decide) ?_
  refine gx_last C E dX5_init_199 ?_
  refine gx_dup C dX5_init_200 ?_
  refine gj_bipush C dX5_init_201 rfl ?_
  refine gj_ldc2 (z := 791471) C dX5_init_203 q1835 (by decide) ?_
  refine gx_last C E dX5_init_206 ?_
  refine gx_dup C dX5_init_207 ?_
  refine gj_bipush C dX5_init_208 rfl ?_
  refine gj_ldc2 (z := 716044) C dX5_init_210 q1836 (by decide) ?_
  refine gx_last C E dX5_init_213 ?_
  refine gx_dup C dX5_init_214 ?_
  refine gj_bipush C dX5_init_215 rfl ?_
  refine gj_ldc2 (z := 53840) C dX5_init_217 q1837 (by decide) ?_
  refine gx_last C E dX5_init_220 ?_
  refine gx_dup C dX5_init_221 ?_
  refine gj_bipush C dX5_init_222 rfl ?_
  refine gj_ldc2 (z := 38396496) C dX5_init_224 q1838 (by decide) ?_
  refine gx_last C E dX5_init_227 ?_
  refine gx_pR (O := "BorrowedLivesModel") (nm := "words") (ds := "[J") (fin := true) (ty := (.array .long)) C E dX5_init_228 (by decide +kernel) (Or.inl q1880) (fun _ h => h) (fun _ => ⟨hnm, rfl⟩) (by decide +kernel) (by decide) ?_
  refine gx_aload_n C dX5_init_231 0 rfl ?_
  refine gj_sipush C dX5_init_232 rfl ?_
  refine gx_newa (t0 := 0) C E dX5_init_235 (by decide) rfl q340 (by decide) rfl (fun v235 => ?_)
  refine gx_pR (O := "BorrowedLivesModel") (nm := "towns") (ds := "[I") (fin := true) (ty := (.array .int)) C E dX5_init_237 (by decide +kernel) (Or.inl q1881) (fun _ h => h) (fun _ => ⟨hnm, rfl⟩) (by decide +kernel) (by decide) ?_
  refine gx_aload_n C dX5_init_240 0 rfl ?_
  refine gj_sipush C dX5_init_241 rfl ?_
  refine gx_newa (t0 := 0) C E dX5_init_244 (by decide) rfl q340 (by decide) rfl (fun v244 => ?_)
  refine gx_pR (O := "BorrowedLivesModel") (nm := "op") (ds := "[I") (fin := true) (ty := (.array .int)) C E dX5_init_246 (by decide +kernel) (Or.inl q1882) (fun _ h => h) (fun _ => ⟨hnm, rfl⟩) (by decide +kernel) (by decide) ?_
  refine gx_aload_n C dX5_init_249 0 rfl ?_
  refine gj_sipush C dX5_init_250 rfl ?_
  refine gx_newa (t0 := 0) C E dX5_init_253 (by decide) rfl q340 (by decide) rfl (fun v253 => ?_)
  refine gx_pR (O := "BorrowedLivesModel") (nm := "arg") (ds := "[I") (fin := true) (ty := (.array .int)) C E dX5_init_255 (by decide +kernel) (Or.inl q1883) (fun _ h => h) (fun _ => ⟨hnm, rfl⟩) (by decide +kernel) (by decide) ?_
  refine gx_aload_n C dX5_init_258 0 rfl ?_
  refine gj_bipush C dX5_init_259 rfl ?_
  refine gx_newa (t0 := 1) C E dX5_init_261 (by decide) rfl q2001 (by decide) rfl (fun v261 => ?_)
  refine gx_pR (O := "BorrowedLivesModel") (nm := "names") (ds := "[J") (fin := true) (ty := (.array .long)) C E dX5_init_263 (by decide +kernel) (Or.inl q1885) (fun _ h => h) (fun _ => ⟨hnm, rfl⟩) (by decide +kernel) (by decide) ?_
  refine gx_aload_n C dX5_init_266 0 rfl ?_
  refine gj_bipush C dX5_init_267 rfl ?_
  refine gx_newa (t0 := 1) C E dX5_init_269 (by decide) rfl q2001 (by decide) rfl (fun v269 => ?_)
  refine gx_pR (O := "BorrowedLivesModel") (nm := "readNames") (ds := "[J") (fin := true) (ty := (.array .long)) C E dX5_init_271 (by decide +kernel) (Or.inl q1886) (fun _ h => h) (fun _ => ⟨hnm, rfl⟩) (by decide +kernel) (by decide) ?_
  refine gx_aload_n C dX5_init_274 0 rfl ?_
  refine gj_sipush C dX5_init_275 rfl ?_
  refine gx_newa (t0 := 0) C E dX5_init_278 (by decide) rfl q340 (by decide) rfl (fun v278 => ?_)
  refine gx_pR (O := "BorrowedLivesModel") (nm := "lines") (ds := "[I") (fin := true) (ty := (.array .int)) C E dX5_init_280 (by decide +kernel) (Or.inl q1891) (fun _ h => h) (fun _ => ⟨hnm, rfl⟩) (by decide +kernel) (by decide) ?_
  refine gx_aload_n C dX5_init_283 0 rfl ?_
  refine gj_iconst C dX5_init_284 ?_
  refine gx_newa (t0 := 0) C E dX5_init_285 (by decide) rfl q340 (by decide) rfl (fun v285 => ?_)
  refine gx_pR (O := "BorrowedLivesModel") (nm := "facts") (ds := "[I") (fin := true) (ty := (.array .int)) C E dX5_init_287 (by decide +kernel) (Or.inl q1892) (fun _ h => h) (fun _ => ⟨hnm, rfl⟩) (by decide +kernel) (by decide) ?_
  refine gx_aload_n C dX5_init_290 0 rfl ?_
  refine gj_sipush C dX5_init_291 rfl ?_
  refine gx_newa (t0 := 0) C E dX5_init_294 (by decide) rfl q340 (by decide) rfl (fun v294 => ?_)
  refine gx_pR (O := "BorrowedLivesModel") (nm := "pile") (ds := "[I") (fin := true) (ty := (.array .int)) C E dX5_init_296 (by decide +kernel) (Or.inl q1893) (fun _ h => h) (fun _ => ⟨hnm, rfl⟩) (by decide +kernel) (by decide) ?_
  refine gx_aload_n C dX5_init_299 0 rfl ?_
  refine gj_sipush C dX5_init_300 rfl ?_
  refine gx_newa (t0 := 0) C E dX5_init_303 (by decide) rfl q340 (by decide) rfl (fun v303 => ?_)
  refine gx_pR (O := "BorrowedLivesModel") (nm := "state") (ds := "[I") (fin := true) (ty := (.array .int)) C E dX5_init_305 (by decide +kernel) (Or.inl q1894) (fun _ h => h) (fun _ => ⟨hnm, rfl⟩) (by decide +kernel) (by decide) ?_
  refine gx_aload_n C dX5_init_308 0 rfl ?_
  refine gj_iconst C dX5_init_309 ?_
  refine gx_newa (t0 := 2) C E dX5_init_310 (by decide) rfl q2002 (by decide) rfl (fun v310 => ?_)
  refine gx_pR (O := "BorrowedLivesModel") (nm := "isMarked") (ds := "[Z") (fin := true) (ty := (.array .boolean)) C E dX5_init_312 (by decide +kernel) (Or.inl q1896) (fun _ h => h) (fun _ => ⟨hnm, rfl⟩) (by decide +kernel) (by decide) ?_
  refine gx_aload_n C dX5_init_315 0 rfl ?_
  refine gj_sipush C dX5_init_316 rfl ?_
  refine gx_newa (t0 := 0) C E dX5_init_319 (by decide) rfl q340 (by decide) rfl (fun v319 => ?_)
  refine gx_pR (O := "BorrowedLivesModel") (nm := "lotRows") (ds := "[I") (fin := true) (ty := (.array .int)) C E dX5_init_321 (by decide +kernel) (Or.inl q1898) (fun _ h => h) (fun _ => ⟨hnm, rfl⟩) (by decide +kernel) (by decide) ?_
  refine gx_aload_n C dX5_init_324 0 rfl ?_
  refine gj_bipush C dX5_init_325 rfl ?_
  refine gx_newa (t0 := 0) C E dX5_init_327 (by decide) rfl q340 (by decide) rfl (fun v327 => ?_)
  refine gx_pR (O := "BorrowedLivesModel") (nm := "lotRow") (ds := "[I") (fin := true) (ty := (.array .int)) C E dX5_init_329 (by decide +kernel) (Or.inl q1899) (fun _ h => h) (fun _ => ⟨hnm, rfl⟩) (by decide +kernel) (by decide) ?_
  refine gx_aload_n C dX5_init_332 0 rfl ?_
  refine gj_bipush C dX5_init_333 rfl ?_
  refine gx_newa (t0 := 0) C E dX5_init_335 (by decide) rfl q340 (by decide) rfl (fun v335 => ?_)
  refine gx_pR (O := "BorrowedLivesModel") (nm := "deed") (ds := "[I") (fin := true) (ty := (.array .int)) C E dX5_init_337 (by decide +kernel) (Or.inl q1902) (fun _ h => h) (fun _ => ⟨hnm, rfl⟩) (by decide +kernel) (by decide) ?_
  refine gx_aload_n C dX5_init_340 0 rfl ?_
  refine gj_bipush C dX5_init_341 rfl ?_
  refine gx_newa (t0 := 0) C E dX5_init_343 (by decide) rfl q340 (by decide) rfl (fun v343 => ?_)
  refine gx_pR (O := "BorrowedLivesModel") (nm := "bestDeeds") (ds := "[I") (fin := true) (ty := (.array .int)) C E dX5_init_345 (by decide +kernel) (Or.inl q1903) (fun _ h => h) (fun _ => ⟨hnm, rfl⟩) (by decide +kernel) (by decide) ?_
  refine gx_aload_n C dX5_init_348 0 rfl ?_
  refine gj_bipush C dX5_init_349 rfl ?_
  refine gx_newa (t0 := 2) C E dX5_init_351 (by decide) rfl q2002 (by decide) rfl (fun v351 => ?_)
  refine gx_pR (O := "BorrowedLivesModel") (nm := "would") (ds := "[Z") (fin := true) (ty := (.array .boolean)) C E dX5_init_353 (by decide +kernel) (Or.inl q1907) (fun _ h => h) (fun _ => ⟨hnm, rfl⟩) (by decide +kernel) (by decide) ?_
  refine gx_aload_n C dX5_init_356 0 rfl ?_
  refine gj_bipush C dX5_init_357 rfl ?_
  refine gx_newa (t0 := 0) C E dX5_init_359 (by decide) rfl q340 (by decide) rfl (fun v359 => ?_)
  refine gx_pR (O := "BorrowedLivesModel") (nm := "pairRow") (ds := "[I") (fin := true) (ty := (.array .int)) C E dX5_init_361 (by decide +kernel) (Or.inl q1908) (fun _ h => h) (fun _ => ⟨hnm, rfl⟩) (by decide +kernel) (by decide) ?_
  refine gx_aload_n C dX5_init_364 0 rfl ?_
  refine gj_bipush C dX5_init_365 rfl ?_
  refine gx_newa (t0 := 0) C E dX5_init_367 (by decide) rfl q340 (by decide) rfl (fun v367 => ?_)
  refine gx_pR (O := "BorrowedLivesModel") (nm := "bestPairs") (ds := "[I") (fin := true) (ty := (.array .int)) C E dX5_init_369 (by decide +kernel) (Or.inl q1909) (fun _ h => h) (fun _ => ⟨hnm, rfl⟩) (by decide +kernel) (by decide) ?_
  refine gx_aload_n C dX5_init_372 0 rfl ?_
  refine gj_sipush C dX5_init_373 rfl ?_
  refine gx_newa (t0 := 0) C E dX5_init_376 (by decide) rfl q340 (by decide) rfl (fun v376 => ?_)
  refine gx_pR (O := "BorrowedLivesModel") (nm := "purses") (ds := "[I") (fin := true) (ty := (.array .int)) C E dX5_init_378 (by decide +kernel) (Or.inl q1911) (fun _ h => h) (fun _ => ⟨hnm, rfl⟩) (by decide +kernel) (by decide) ?_
  refine gx_aload_n C dX5_init_381 0 rfl ?_
  refine gj_sipush C dX5_init_382 rfl ?_
  refine gx_newa (t0 := 2) C E dX5_init_385 (by decide) rfl q2002 (by decide) rfl (fun v385 => ?_)
  refine gx_pR (O := "BorrowedLivesModel") (nm := "fits") (ds := "[Z") (fin := true) (ty := (.array .boolean)) C E dX5_init_387 (by decide +kernel) (Or.inl q1912) (fun _ h => h) (fun _ => ⟨hnm, rfl⟩) (by decide +kernel) (by decide) ?_
  refine gx_aload_n C dX5_init_390 0 rfl ?_
  refine gj_iconst C dX5_init_391 ?_
  refine gx_callMV (As := [.int (iI 0)]) (rest := []) C E dX5_init_392 (fun am => met5_standsAsAlways (cx_l X) (gm g am) 0) (lw_V q1839 q1841 qs52 q134 q1842) hy5_standsAsAlways.2 hy5_standsAsAlways.1 hR (Nat.le_of_ble_eq_true rfl) (by decide) rfl rfl (Nat.zero_le _) ?_
  refine gx_aload_n C dX5_init_395 0 rfl ?_
  refine gx_callMV (As := []) (rest := []) C E dX5_init_396 (fun am => met5_begins (cx_l X) (gm g am)) (lw_V q1843 q1845 qs53 q134 q1846) hy5_begins.2 hy5_begins.1 hR (Nat.le_of_ble_eq_true rfl) (by decide) rfl rfl (Nat.zero_le _) ?_
  exact gx_vret C hQ hr dX5_init_399
