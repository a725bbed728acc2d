/-! METHODS THAT THROW: contracts, ends, throws, calls, catching. -/
/-- what is known where en has been thrown -/
def XXC (g : XG) (σ0 : Hp) (en : String) (QX : Nat → Hp → Prop) : String → Addr → State → State → Prop := fun E q st t => E = en ∧ (∃ (p : Nat) (σ : Hp), q = real g p ∧ QX p σ ∧ XWd g σ t.heap ∧ h_us σ0 ≤ h_us σ ∧ ∀ x, x < h_nx σ0 → h_tg σ x = h_tg σ0 x ∧ h_ln σ x = h_ln σ0 x) ∧ va_F (xA g) st t
def XMetX {α : Type} (l : Launch) (g : XG) (en : String) (y : MethodName) (cc : ByteArray) (nL : Nat) (ret : Option FieldType) (k : Nat) (As : List Value) (f : XT Hp α) (rw9 : α → Option Value) : Prop :=
  ∀ (Q : (α → Hp → Prop) × (Nat → Hp → Prop)) (σ : Hp), f σ Q → vy_Met l y (ws_ y cc nL ret) (xroom k σ) (va_Pc As (xPc g σ)) (xPost g σ Q.1 rw9) (XXC g σ en Q.2) (CAPN - h_nx σ) (CAPS - h_us σ) (xA g)
def YR {α : Type} (X : Cx) (g : XG) (σ0 : Hp) (en : String) (Q : (α → Hp → Prop) × (Nat → Hp → Prop)) (rw9 : α → Option Value) : Prop := cx_q X = vy_MQ (cx_b X) (xPost g σ0 Q.1 rw9) (XXC g σ0 en Q.2) (cx_a X) (cx_s X) (CAPN - h_nx σ0) (CAPS - h_us σ0) (xA g)
def cxq (X : Cx) (q : State → Prop) : Cx := (cx_p X, cx_l X, cx_e X, cx_R X, cx_s X, cx_m X, cx_a X, cx_b X, cx_y X, cx_c X, q)
section YROWS
variable {α P : Type} {X : Cx} {g : XG} {nL : Nat} {σ0 : Hp} {H0 : Heap} {cc : ByteArray} {own en : String} {pc : Nat} {L L' : List (Nat × Value)} {st : List Value} {a b : Int} {r q : Option Nat}
theorem gy_ret {Q : (α → Hp → Prop) × (Nat → Hp → Prop)} {rw9 : α → Option Value} {v : α} (hQ : YR X g σ0 en Q rw9) (h : GJ (cxq X (MQ (cx_b X) (xPost g σ0 Q.1 rw9) (cx_a X) (cx_s X) (CAPN - h_nx σ0) (CAPS - h_us σ0) (xA g))) nL (xWo g σ0 (cx_s X).heap) Q.1 (pret v) pc L st) : GJ X nL (xWo g σ0 (cx_s X).heap) Q (xret v) pc L st := by
  intro σ q H locs cs ss ls w l
  rw [hQ]
  exact vy_ret (h σ q H locs cs ss ls w l)
theorem gy_iret {Q : (Int → Hp → Prop) × (Nat → Hp → Prop)} (C : GC X nL cc own) (hQ : YR X g σ0 en Q rvI) (hr : (cx_y X).sig.returnType = some .int) (hd : decode cc pc = .ok (.ireturn, 1)) : GJ X nL (xWo g σ0 (cx_s X).heap) Q (xret a) pc L [.int (iI a)] := gy_ret hQ (gx_iret (X := cxq X _) C rfl hr hd)
theorem gy_zret {Q : (Int → Hp → Prop) × (Nat → Hp → Prop)} (C : GC X nL cc own) (hQ : YR X g σ0 en Q rvI) (hr : (cx_y X).sig.returnType = some .boolean) (hd : decode cc pc = .ok (.ireturn, 1)) : GJ X nL (xWo g σ0 (cx_s X).heap) Q (pbnd (pzo a) (fun _ => xret a)) pc L [.int (iI a)] := fun σ h => gy_ret hQ (gx_nret (X := cxq X _) C rfl hr (inty_z h.1) hd) σ h.2
theorem gy_vret {Q : (Unit → Hp → Prop) × (Nat → Hp → Prop)} (C : GC X nL cc own) (hQ : YR X g σ0 en Q rvV) (hr : (cx_y X).sig.returnType = none) (hd : decode cc pc = .ok (.return_, 1)) : GJ X nL (xWo g σ0 (cx_s X).heap) Q (xret ()) pc L [] := gy_ret hQ (gx_vret (X := cxq X _) C rfl hr hd)
theorem gy_aret {Q : (Option Nat → Hp → Prop) × (Nat → Hp → Prop)} {rt : FieldType} (C : GC X nL cc own) (hQ : YR X g σ0 en Q (rvR g)) (hr : (cx_y X).sig.returnType = some rt) (hrt : (∃ n, rt = .object n) ∨ ∃ t, rt = .array t) (hd : decode cc pc = .ok (.areturn, 1)) : GJ X nL (xWo g σ0 (cx_s X).heap) Q (xret r) pc L [rv g r] := gy_ret hQ (gx_aret (X := cxq X _) C rfl hr hrt hd)
/-- thrown on to the caller -/
theorem gy_out {Q : (α → Hp → Prop) × (Nat → Hp → Prop)} {rw9 : α → Option Value} {E : String} {ce : Cell} {q : Addr} {p : Nat} {σ : Hp} {H : Heap} {locs : List Loc} {cs ss : Nat} {ls : Array Slot} {rest : List Value} (C : GC X nL cc own) (hT : ∀ x ∈ (cx_c X).exceptionTable.toList, False) (hQ : YR X g σ0 en Q rw9)
    (hcell : H[q]? = some ce) (hv : ce.vm = .none) (hcl : (cx_s X).vm.findClass E = some ce.cls) (hE : E = en) (hq : q = real g p) (h : Q.2 p σ) (w : xWo g σ0 (cx_s X).heap σ H locs cs ss) :
    vy_W (cx_p X) (cx_l X) (cx_e X) (cx_R X) (cx_s X) (cx_m X) (cx_a X) (cx_b X) (cx_y X) (cx_c X) H locs cs ss (cx_q X) (F0 (cx_m X) pc ls rest) q := by
  rw [hQ]
  refine vy_out (ce := ce) (fun x hx => (hT x hx).elim) C.2.2.2.1 hcell hv hcl (fun t ht _ => ⟨hE, ⟨p, σ, hq, h, by rw [ht]; exact w.1, w.2.2.2.2.2.1, w.2.2.2.2.2.2⟩, w.2.1.F ht⟩) w.2.1.2.2 (xWo_cs w).1 (xWo_cs w).2
theorem gy_athrow {Q : (α → Hp → Prop) × (Nat → Hp → Prop)} {rw9 : α → Option Value} (C : GC X nL cc own) (E : XE X g σ0) (hT : ∀ x ∈ (cx_c X).exceptionTable.toList, False) (hQ : YR X g σ0 RX6 Q rw9) (hd : decode cc pc = .ok (.athrow, 1)) : GJ X nL (xWo g σ0 (cx_s X).heap) Q (xthrow r) pc L (rv g r :: st) := by
  intro σ ⟨p, e, ht, h⟩ H locs cs ss ls w l
  subst e
  obtain ⟨e, hp, cell, h1, h2, h3, h4, h5⟩ := w.1.obj ht (by decide)
  exact vy_athrow C.1 C.2.1 hd (gy_out C hT hQ (ce := cell) (by rw [e]; exact h1) h3 (by rw [h2]; exact (E.1.1.1 5 _ rfl).2.1) rfl rfl h w)
/-- a stand with the count of what is new -/
theorem x_tight {T' : State} {locs : List Loc} {c0 s0 : Nat} {σ' : Hp} (E : XE X g σ0) (X' : Stand (cx_p X) (cx_l X) (cx_e X) (cx_R X) (cx_s X) (cx_m X) (cx_a X) (cx_b X) (cx_y X) (cx_c X) T' locs c0 s0) (hw : XWd g σ' T'.heap) (hn : h_nx σ0 ≤ h_nx σ') (hz : ∀ p, p < h_nx σ0 → h_tg σ' p = h_tg σ0 p ∧ h_ln σ' p = h_ln σ0 p) :
    Stand (cx_p X) (cx_l X) (cx_e X) (cx_R X) (cx_s X) (cx_m X) (cx_a X) (cx_b X) (cx_y X) (cx_c X) T' locs (h_nx σ' - h_nx σ0) (h_us σ' - h_us σ0) := by
  have hsame : (cx_s X).sameButNew (T'.setVm (cx_s X).vm) locs (h_nx σ' - h_nx σ0) (h_us σ' - h_us σ0) := by
    obtain ⟨s1, s2, s3, s4, s5, s6⟩ := X'.same
    have hh : (T'.setVm (cx_s X).vm).heap = T'.heap := rfl
    refine ⟨s1, s2, ?_, s4, ?_, s6⟩
    · rw [hh, hw.1, E.2.1]
      omega
    · rw [hh, E.2.1]
      have h9 := x_sum hw (h_nx σ0) hn
      rw [sumTo_congr (h := fun p => xsz (h_tg σ0 p) (h_ln σ0 p)) (fun i hi => by rw [(hz i hi).1, (hz i hi).2]), ← E.2.2.2.2.2] at h9
      omega
  exact { X' with same := hsame }
/-- the world behind a call -/
theorem x_behind {σ σ' : Hp} {H : Heap} {T' t st₀ : State} {locs LL : List Loc} {cs ss : Nat} (w : xWo g σ0 (cx_s X).heap σ H locs cs ss) (h0 : st₀.heap = H) (e1 : T'.heap = t.heap) (hL : ∀ z ∈ LL, xA g z.base) (hw : XWd g σ' t.heap) (hus : h_us σ ≤ h_us σ') (htg : ∀ p, p < h_nx σ → h_tg σ' p = h_tg σ p ∧ h_ln σ' p = h_ln σ p) (hF : va_F (xA g) st₀ t) :
    xWo g σ0 (cx_s X).heap σ' T'.heap (locs ++ LL) (h_nx σ' - h_nx σ0) (h_us σ' - h_us σ0) := by
  obtain ⟨w1, hS, hc, hs, hn0, hu0, hz0⟩ := w
  have hz : H.size ≤ T'.heap.size := by rw [e1, ← h0]; exact hF.1
  have hnx : h_nx σ ≤ h_nx σ' := by
    have h1 := w1.1
    have h2 := hw.1
    rw [← e1] at h2
    omega
  refine ⟨by rw [e1]; exact hw, ⟨Nat.le_trans hS.1 hz, fun x h1 h2 => by
    rw [e1, hF.2 x (by rw [h0]; exact Nat.lt_of_lt_of_le h1 hS.1) h2, h0]
    exact hS.2.1 x h1 h2, fun x hx => by
    rcases List.mem_append.mp hx with h | h
    · exact hS.2.2 x h
    · exact hL x h⟩, rfl, rfl, Nat.le_trans hn0 hnx, Nat.le_trans hu0 hus, fun p hp => by
    obtain ⟨a1, a2⟩ := hz0 p hp
    obtain ⟨b1, b2⟩ := htg p (Nat.lt_of_lt_of_le hp hn0)
    exact ⟨b1.trans a1, b2.trans a2⟩⟩
/-- a call of one that may throw: on with k, or h takes what is thrown -/
theorem gy_run {Q : P} {f : XT Hp α} {rw9 : α → Option Value} {kf : α → Hp → P → Prop} {kx : Nat → Hp → P → Prop} {st0 rest : List Value} {k : Nat} {y : MethodName} {yc : ByteArray} {nL' : Nat} {ret : Option FieldType} {As : List Value} (E : XE X g σ0)
    (hrun : ∀ (σ : Hp) (Q' : (α → Hp → Prop) × (Nat → Hp → Prop)) (H : Heap) (locs : List Loc) (cs ss : Nat) (ls : Array Slot), f σ Q' → xWo g σ0 (cx_s X).heap σ H locs cs ss → lv_has ls nL L → vy_Run (cx_p X) (cx_l X) (cx_e X) (cx_R X) (cx_s X) (cx_m X) (cx_a X) (cx_b X) (cx_y X) (cx_c X) H locs cs ss (CAPN - h_nx σ) (CAPS - h_us σ) (F0 (cx_m X) pc ls st0) rest (xPost g σ Q'.1 rw9 As.toArray) (XXC g σ en Q'.2) (xA g))
    (kout : ∀ (p : Nat) (σ : Hp) (H : Heap) (locs : List Loc) (cs ss : Nat) (ls : Array Slot) (ce : Cell) (q : Addr), kx p σ Q → xWo g σ0 (cx_s X).heap σ H locs cs ss → lv_has ls nL L → H[q]? = some ce → ce.vm = .none → (cx_s X).vm.findClass en = some ce.cls → q = real g p → vy_W (cx_p X) (cx_l X) (cx_e X) (cx_R X) (cx_s X) (cx_m X) (cx_a X) (cx_b X) (cx_y X) (cx_c X) H locs cs ss (cx_q X) (F0 (cx_m X) pc ls rest) q)
    (kk : ∀ r, GJ X nL (xWo g σ0 (cx_s X).heap) Q (kf r) (pc + 3) L ((rw9 r).toList ++ rest)) : GJ X nL (xWo g σ0 (cx_s X).heap) Q (xtry f kx kf) pc L st0 := by
  intro σ q H locs cs ss ls w l
  intro T hT Xs
  rcases hrun σ _ H locs cs ss ls q w l T hT Xs with ⟨v, s0, t, T', LL, h0, X', hL, e1, e2, ⟨⟨r, σ', hv, hq, hw, hus, htg⟩, hF⟩, stp⟩ | ⟨q9, s0, t, T', LL, E9, ce, h0, X', hL, e1, e2, ⟨hE, ⟨p, σ', hq9, hq, hw, hus, htg⟩, hF⟩, hce, hcv, hcl, stp⟩
  · cases hv
    have hb := x_behind (LL := LL) w h0 e1 hL hw hus htg hF
    obtain ⟨t2, a1, b1⟩ := kk r σ' hq T'.heap (locs ++ LL) _ _ ls hb l T' rfl (x_tight E X' (by rw [e1]; exact hw) hb.2.2.2.2.1 hb.2.2.2.2.2.2)
    exact ⟨t2, stp t2 a1, b1⟩
  · have hb := x_behind (LL := LL) w h0 e1 hL hw hus htg hF
    obtain ⟨t2, a1, b1⟩ := kout p σ' T'.heap (locs ++ LL) _ _ ls ce q9 hq hb l (by rw [e1]; exact hce) hcv (by rw [← hE]; exact hcl) hq9 T' rfl (x_tight E X' (by rw [e1]; exact hw) hb.2.2.2.2.1 hb.2.2.2.2.2.2)
    exact ⟨t2, stp.trans a1, b1⟩
/-- thrown on to the caller, within a call -/
theorem gy_up {Q : (α → Hp → Prop) × (Nat → Hp → Prop)} {rw9 : α → Option Value} (C : GC X nL cc own) (hT : ∀ x ∈ (cx_c X).exceptionTable.toList, False) (hQ : YR X g σ0 en Q rw9) {rest : List Value} : ∀ (p : Nat) (σ : Hp) (H : Heap) (locs : List Loc) (cs ss : Nat) (ls : Array Slot) (ce : Cell) (q : Addr), (fun p σ (Q : (α → Hp → Prop) × (Nat → Hp → Prop)) => Q.2 p σ) p σ Q → xWo g σ0 (cx_s X).heap σ H locs cs ss → lv_has ls nL L → H[q]? = some ce → ce.vm = .none → (cx_s X).vm.findClass en = some ce.cls → q = real g p → vy_W (cx_p X) (cx_l X) (cx_e X) (cx_R X) (cx_s X) (cx_m X) (cx_a X) (cx_b X) (cx_y X) (cx_c X) H locs cs ss (cx_q X) (F0 (cx_m X) pc ls rest) q :=
  fun _ _ _ _ _ _ _ _ _ h w _ h1 h2 h3 h4 => gy_out C hT hQ h1 h2 h3 rfl h4 h w
theorem gy_start {l : Launch} {y : MethodName} {yc : ByteArray} {nL : Nat} {ret : Option FieldType} {k : Nat} {As : List Value} {f : XT Hp α} {rw9 : α → Option Value} (hy : plainName y.cls = true) (hl : (lg_sl As).length ≤ nL)
    (body : ∀ (X : Cx) (Q : (α → Hp → Prop) × (Nat → Hp → Prop)) (σ0 : Hp), cx_l X = l → GC X nL yc y.cls → XE X g σ0 → YR X g σ0 en Q rw9 → k ≤ (cx_R X).frames ∧ 40 * k ≤ (cx_R X).locals → (cx_y X).sig.returnType = ret → (∀ x ∈ (cx_c X).exceptionTable.toList, False) → GJ X nL (xWo g σ0 (cx_s X).heap) Q f 0 (lv_args 0 As) []) : XMetX l g en y yc nL ret k As f rw9 := by
  intro Q σ q
  refine vy_ofW (cc := yc) (maxL := nL) (ret := ret) hy rfl ?_
  intro p e s m args below meth c s1 B hml ht hv
  obtain ⟨rfl, hW, hK, hC⟩ := hv
  have hts := atoms_spec (ws := ws_ y yc nL ret) B.pre
  have hts : ∀ w ∈ lw_all, w.before As.toArray s = true := fun w h => hts w (List.mem_cons_of_mem _ h)
  have hown : s.vm.findClass y.cls = some m.cls := findClass_of_methodNamed B.named
  rw [lg_entry_eq]
  exact body (p, l, e, xroom k σ, s, m, As.toArray, below, meth, c, vy_MQ below (xPost g σ Q.1 rw9) (XXC g σ en Q.2) As.toArray s (CAPN - h_nx σ) (CAPS - h_us σ) (xA g)) Q σ rfl ⟨B.exec, B.bytes, hml, B.notSynchronized, hown, hts⟩ ⟨hK, hW.1, rfl, rfl, hC, hW.2.2.2.2.2.1⟩ rfl ⟨Nat.le_refl _, Nat.le_refl _⟩ B.returns ht σ q s.heap [] 0 0 _ ⟨hW, va_S.rf, (Nat.sub_self _).symm, (Nat.sub_self _).symm, Nat.le_refl _, Nat.le_refl _, fun _ _ => ⟨rfl, rfl⟩⟩ (lv_entry As hl)
/-- a virtual call of one that may throw -/
theorem gy_callV {Q : P} {kx : Nat → Hp → P → Prop} (C : GC X nL cc own) (E : XE X g σ0) {f : XT Hp α} {rw9 : α → Option Value} {kf : α → Hp → P → Prop} {As rest : List Value} {k n i : Nat} {y : MethodName} {yc : ByteArray} {nL' : Nat} {ret : Option FieldType}
    {t0 : Nat} {r0 : vw_C} (hr0 : xcl[t0]? = some r0) (hd : decode cc pc = .ok (.invokevirtual i, 3)) (hM : XMetX (cx_l X) g en y yc nL' ret k (rv g r :: As) f rw9) (hT : GoodIn lw_all (wsV own i y.cls y (ws_ y yc nL' ret))) (hy : y.cls ≠ "java/lang/invoke/MethodHandle" ∧ y.cls ≠ "java/lang/invoke/VarHandle" ∧ (parseMethodDescriptor y.desc).map (fun d => d.parameters.length) = some n) (hcl : r0.1 = y.cls) {k0 : Nat} (hR : k0 ≤ (cx_R X).frames ∧ 40 * k0 ≤ (cx_R X).locals) (hk : k + 1 ≤ k0) (hn' : nL' ≤ 20) (hlen : As.length = n) {st0 : List Value} (hst : st0 = As.reverse ++ rv g r :: rest) (hcat : (rest.map fun v => v.category).sum ≤ 8)
    (kout : ∀ (p : Nat) (σ : Hp) (H : Heap) (locs : List Loc) (cs ss : Nat) (ls : Array Slot) (ce : Cell) (q : Addr), kx p σ Q → xWo g σ0 (cx_s X).heap σ H locs cs ss → lv_has ls nL L → H[q]? = some ce → ce.vm = .none → (cx_s X).vm.findClass en = some ce.cls → q = real g p → vy_W (cx_p X) (cx_l X) (cx_e X) (cx_R X) (cx_s X) (cx_m X) (cx_a X) (cx_b X) (cx_y X) (cx_c X) H locs cs ss (cx_q X) (F0 (cx_m X) pc ls rest) q)
    (kk : ∀ r, GJ X nL (xWo g σ0 (cx_s X).heap) Q (kf r) (pc + 3) L ((rw9 r).toList ++ rest)) : GJ X nL (xWo g σ0 (cx_s X).heap) Q (pbnd (xrecv r t0) (fun _ => xtry f kx kf)) pc L st0 := by
  subst hst
  intro σ ⟨p, e, ht, q⟩ H locs cs ss ls w l
  subst e
  refine gy_run (f := fun σ Q' => h_tg σ p = t0 ∧ f σ Q') (en := en) (kx := kx) (As := rv g (some p) :: As) (k := k) (y := y) (yc := yc) (nL' := nL') (ret := ret) E (fun σ Q' H locs cs ss ls q w l => ?_) kout kk σ ⟨ht, q⟩ H locs cs ss ls w l
  obtain ⟨ht, q⟩ := q
  have w0 := w.1
  exact vy_runV (nL := nL) (As := As) (rest := rest) ⟨C.1, C.2.1, C.2.2.1, C.2.2.2.2.1, C.2.2.2.2.2⟩ (hM Q' σ q) (cwV n C.2.2.2.2.2 hT rfl rfl rfl ⟨rfl, hy⟩ (xRoom E hR hk hn' σ)) ⟨xPc_blind _ σ, by rw [← hcl]; exact x_recv E.1 w0 ht hr0, fun U hU hW => ⟨rfl, xPre E w hU hW⟩⟩ rfl hlen l.1 rfl (lv_room hcat) hd (xFit E w)
/-- a static call of one that may throw -/
theorem gy_callS {Q : P} {kx : Nat → Hp → P → Prop} (C : GC X nL cc own) (E : XE X g σ0) {f : XT Hp α} {rw9 : α → Option Value} {kf : α → Hp → P → Prop} {As rest : List Value} {k n i : Nat} {y : MethodName} {yc : ByteArray} {nL' : Nat} {ret : Option FieldType}
    (hd : decode cc pc = .ok (.invokestatic i, 3)) (hM : XMetX (cx_l X) g en y yc nL' ret k As f rw9) (hT : GoodIn lw_all (va_wsS own i y (ws_ y yc nL' ret))) (hy : y.cls ≠ "java/lang/invoke/MethodHandle" ∧ y.cls ≠ "java/lang/invoke/VarHandle" ∧ (parseMethodDescriptor y.desc).map (fun d => d.parameters.length) = some n) {k0 : Nat} (hR : k0 ≤ (cx_R X).frames ∧ 40 * k0 ≤ (cx_R X).locals) (hk : k + 1 ≤ k0) (hn' : nL' ≤ 20) (hlen : As.length = n) {st0 : List Value} (hst : st0 = As.reverse ++ rest) (hcat : (rest.map fun v => v.category).sum ≤ 8)
    (kout : ∀ (p : Nat) (σ : Hp) (H : Heap) (locs : List Loc) (cs ss : Nat) (ls : Array Slot) (ce : Cell) (q : Addr), kx p σ Q → xWo g σ0 (cx_s X).heap σ H locs cs ss → lv_has ls nL L → H[q]? = some ce → ce.vm = .none → (cx_s X).vm.findClass en = some ce.cls → q = real g p → vy_W (cx_p X) (cx_l X) (cx_e X) (cx_R X) (cx_s X) (cx_m X) (cx_a X) (cx_b X) (cx_y X) (cx_c X) H locs cs ss (cx_q X) (F0 (cx_m X) pc ls rest) q)
    (kk : ∀ r, GJ X nL (xWo g σ0 (cx_s X).heap) Q (kf r) (pc + 3) L ((rw9 r).toList ++ rest)) : GJ X nL (xWo g σ0 (cx_s X).heap) Q (xtry f kx kf) pc L st0 := by
  subst hst
  refine gy_run (f := f) (en := en) (kx := kx) (As := As) (k := k) (y := y) (yc := yc) (nL' := nL') (ret := ret) E (fun σ Q' H locs cs ss ls q w l => ?_) kout kk
  exact vy_runS (nL := nL) (As := As) (rest := rest) ⟨C.1, C.2.1, C.2.2.1, C.2.2.2.2.1, C.2.2.2.2.2⟩ (hM Q' σ q) (va_cwS n C.2.2.2.2.2 hT rfl rfl rfl hy (xRoom E hR hk hn' σ)) ⟨xPc_blind _ σ, fun U hU hW => ⟨rfl, xPre E w hU hW⟩⟩ rfl hlen l.1 rfl (lv_room hcat) hd (xFit E w)
end YROWS
