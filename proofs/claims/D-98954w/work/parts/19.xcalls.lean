/-! THE COMPONENT's contracts: starts, ends, calls. -/
def xroom (k : Nat) (σ : Hp) : Room := { frames := k, cells := CAPN - h_nx σ, slots := CAPS - h_us σ, locals := 40 * k }
def xPost {α : Type} (g : XG) (σ0 : Hp) (Q : α → Hp → Prop) (rw9 : α → Option Value) : Array Value → State → Outcome → State → Prop :=
  fun _ st o t => (∃ (r : α) (σ : Hp), o = .returned (rw9 r) ∧ Q r σ ∧ XWd g σ t.heap ∧ h_us σ0 ≤ h_us σ ∧ ∀ p, p < h_nx σ0 → h_tg σ p = h_tg σ0 p ∧ h_ln σ p = h_ln σ0 p) ∧ va_F (xA g) st t
def xPc (g : XG) (σ : Hp) : State → Prop := fun U => XWd g σ U.heap ∧ XK g U ∧ XCst g U U.heap
def XMet {α : Type} (l : Launch) (g : XG) (y : MethodName) (cc : ByteArray) (nL : Nat) (ret : Option FieldType) (k : Nat) (As : List Value) (f : PT Hp α) (rw9 : α → Option Value) : Prop :=
  ∀ (Q : α → Hp → Prop) (σ : Hp), f σ Q → Met l y (ws_ y cc nL ret) (xroom k σ) (va_Pc As (xPc g σ)) (xPost g σ Q rw9) (CAPN - h_nx σ) (CAPS - h_us σ) (xA g)
def rvR (g : XG) : Option Nat → Option Value := fun r => some (rv g r)
def XR {α : Type} (X : Cx) (g : XG) (σ0 : Hp) (Q : α → Hp → Prop) (rw9 : α → Option Value) : Prop := cx_q X = MQ (cx_b X) (xPost g σ0 Q rw9) (cx_a X) (cx_s X) (CAPN - h_nx σ0) (CAPS - h_us σ0) (xA g)
/-- the slots of the cells from n on -/
theorem x_sum {g : XG} {σ : Hp} {H : Heap} (w : XWd g σ H) (n : Nat) (hn : n ≤ h_nx σ) : sumTo (fun p => xsz (h_tg σ p) (h_ln σ p)) n + ((H.toList.drop (g.2.2.1 + n)).map (·.slots.size)).sum = h_us σ := by
  obtain ⟨w1, -, -, -, w5, w6, -⟩ := w
  rw [w6]
  have key : ∀ j, j ≤ h_nx σ → sumTo (fun p => xsz (h_tg σ p) (h_ln σ p)) (h_nx σ - j) + ((H.toList.drop (g.2.2.1 + (h_nx σ - j))).map (·.slots.size)).sum = sumTo (fun p => xsz (h_tg σ p) (h_ln σ p)) (h_nx σ) := by
    intro j
    induction j with
    | zero =>
      intro _
      rw [Nat.sub_zero, List.drop_eq_nil_of_le (by rw [Array.length_toList, w1]; exact Nat.le_refl _)]
      rfl
    | succ j ih =>
      intro hj
      have h1 := ih (by omega)
      have e : h_nx σ - j = h_nx σ - (j + 1) + 1 := by omega
      obtain ⟨cell, c1, c2⟩ := w5 (h_nx σ - (j + 1)) (by omega)
      have hl : g.2.2.1 + (h_nx σ - (j + 1)) < H.toList.length := by rw [Array.length_toList, w1]; omega
      rw [List.drop_eq_getElem_cons hl, List.map_cons, List.sum_cons]
      have hc : H.toList[g.2.2.1 + (h_nx σ - (j + 1))] = cell := by
        have := List.getElem?_eq_getElem hl
        rw [Array.getElem?_toList, c1] at this
        exact (Option.some.inj this).symm
      rw [hc, c2]
      rw [e] at h1
      simp only [sumTo] at h1
      have e2 : g.2.2.1 + (h_nx σ - (j + 1) + 1) = g.2.2.1 + (h_nx σ - (j + 1)) + 1 := by omega
      rw [e2] at h1
      omega
  have := key (h_nx σ - n) (by omega)
  rw [show h_nx σ - (h_nx σ - n) = n by omega] at this
  exact this
section XCALLS
variable {α P : Type} {X : Cx} {g : XG} {nL : Nat} {σ0 : Hp} {H0 : Heap} {Q : P} {cc : ByteArray} {own : String} {pc : Nat} {L L' : List (Nat × Value)} {st : List Value} {a b : Int} {r q : Option Nat} {t : Hp → P → Prop}
/-! ends -/
theorem gx_end {Q : α → Hp → Prop} {rw9 : α → Option Value} {r : α} {σ : Hp} {H : Heap} {locs : List Loc} {cs ss : Nat} {t : State} {a : Array Value} {s : State} (q : Q r σ) (w : xWo g σ0 s.heap σ H locs cs ss) (ht : t.heap = H) : xPost g σ0 Q rw9 a s (.returned (rw9 r)) t :=
  ⟨⟨r, σ, rfl, q, by rw [ht]; exact w.1, w.2.2.2.2.2.1, w.2.2.2.2.2.2⟩, w.2.1.F ht⟩
theorem xWo_cs {σ : Hp} {H : Heap} {locs : List Loc} {cs ss : Nat} (w : xWo g σ0 H0 σ H locs cs ss) : cs ≤ CAPN - h_nx σ0 ∧ ss ≤ CAPS - h_us σ0 := by
  obtain ⟨⟨-, h1, h2, -⟩, -, h3, h4, -⟩ := w
  omega
theorem gx_iret {Q : Int → Hp → Prop} (C : GC X nL cc own) (hQ : XR X g σ0 Q rvI) (hr : (cx_y X).sig.returnType = some .int) (hd : decode cc pc = .ok (.ireturn, 1)) : GJ X nL (xWo g σ0 (cx_s X).heap) Q (pret a) pc L [.int (iI a)] := by
  intro σ q H locs cs ss ls w l
  rw [hQ]
  refine W.widen (xWo_cs w).1 (xWo_cs w).2 ?_
  exact W.iret C.1 C.2.1 hr (fun t ht _ => gx_end (rw9 := rvI) (r := a) q w ht) w.2.1.2.2 hd C.2.2.2.1
/-- a result that its type keeps: boolean, char, byte -/
theorem gx_nret {Q : Int → Hp → Prop} {ty : FieldType} (C : GC X nL cc own) (hQ : XR X g σ0 Q rvI) (hr : (cx_y X).sig.returnType = some ty) (hz : inty ty a) (hd : decode cc pc = .ok (.ireturn, 1)) : GJ X nL (xWo g σ0 (cx_s X).heap) Q (pret a) pc L [.int (iI a)] := by
  intro σ q H locs cs ss ls w l
  rw [hQ]
  refine W.widen (xWo_cs w).1 (xWo_cs w).2 ?_
  exact W.zret C.1 C.2.1 hr hz.1 (fun t ht _ => gx_end (rw9 := rvI) (r := a) q w ht) w.2.1.2.2 hd C.2.2.2.1
theorem gx_zret {Q : Int → Hp → Prop} (C : GC X nL cc own) (hQ : XR X g σ0 Q rvI) (hr : (cx_y X).sig.returnType = some .boolean) (hd : decode cc pc = .ok (.ireturn, 1)) : GJ X nL (xWo g σ0 (cx_s X).heap) Q (pbnd (pzo a) (fun _ => pret a)) pc L [.int (iI a)] := fun σ h => gx_nret C hQ hr (inty_z h.1) hd σ h.2
theorem inty_c {v : Int} (h : 0 ≤ v ∧ v < 65536) : inty .char v := by
  obtain ⟨n, rfl⟩ : ∃ n : Nat, v = n := ⟨v.toNat, by omega⟩
  have e : iI (n : Int) = nI n := Int32.ofInt_eq_ofNat
  unfold inty
  rw [e]
  exact pk_charN (by omega)
theorem gx_cret {Q : Int → Hp → Prop} (C : GC X nL cc own) (hQ : XR X g σ0 Q rvI) (hr : (cx_y X).sig.returnType = some .char) (hd : decode cc pc = .ok (.ireturn, 1)) : GJ X nL (xWo g σ0 (cx_s X).heap) Q (pbnd (pzc a) (fun _ => pret a)) pc L [.int (iI a)] := fun σ h => gx_nret C hQ hr (inty_c h.1) hd σ h.2
theorem gx_vret {Q : Unit → Hp → Prop} (C : GC X nL cc own) (hQ : XR X g σ0 Q rvV) (hr : (cx_y X).sig.returnType = none) (hd : decode cc pc = .ok (.return_, 1)) : GJ X nL (xWo g σ0 (cx_s X).heap) Q (pret ()) pc L [] := by
  intro σ q H locs cs ss ls w l
  rw [hQ]
  refine W.widen (xWo_cs w).1 (xWo_cs w).2 ?_
  exact W.vret C.1 C.2.1 hr (fun t ht _ => gx_end (rw9 := rvV) (r := ()) q w ht) w.2.1.2.2 hd C.2.2.2.1
theorem gx_aret {Q : Option Nat → Hp → Prop} {rt : FieldType} (C : GC X nL cc own) (hQ : XR X g σ0 Q (rvR g)) (hr : (cx_y X).sig.returnType = some rt) (hrt : (∃ n, rt = .object n) ∨ ∃ t, rt = .array t) (hd : decode cc pc = .ok (.areturn, 1)) : GJ X nL (xWo g σ0 (cx_s X).heap) Q (pret r) pc L [rv g r] := by
  intro σ q H locs cs ss ls w l
  rw [hQ]
  refine W.widen (xWo_cs w).1 (xWo_cs w).2 ?_
  exact W.aret C.1 C.2.1 hr hrt (by cases r; exact Or.inl rfl; exact Or.inr ⟨_, rfl⟩) (fun t ht _ => gx_end (rw9 := rvR g) (r := r) q w ht) w.2.1.2.2 hd C.2.2.2.1
/-! starts and calls -/
theorem xPc_blind (As : List Value) (σ : Hp) : FrameBlind (va_Pc As (xPc g σ)) := fun a U gf mk q => ⟨q.1, q.2.1, XK.same (u := U) (U := U.calling gf mk a) rfl q.2.2.1, XCst.same (u := U) (U := U.calling gf mk a) rfl q.2.2.2⟩
theorem gx_start {l : Launch} {y : MethodName} {yc : ByteArray} {nL : Nat} {ret : Option FieldType} {k : Nat} {As : List Value} {f : PT Hp α} {rw9 : α → Option Value} (hy : plainName y.cls = true) (hl : (lg_sl As).length ≤ nL)
    (body : ∀ (X : Cx) (Q : α → Hp → Prop) (σ0 : Hp), cx_l X = l → GC X nL yc y.cls → XE X g σ0 → XR X g σ0 Q rw9 → k ≤ (cx_R X).frames ∧ 40 * k ≤ (cx_R X).locals → (cx_y X).sig.returnType = ret → (cx_y X).name = y.name → GJ X nL (xWo g σ0 (cx_s X).heap) Q f 0 (lv_args 0 As) []) : XMet l g y yc nL ret k As f rw9 := by
  intro Q σ q
  refine Met.ofW (cc := yc) (maxL := nL) (ret := ret) hy rfl ?_
  intro p e s m args below meth c s1 B hml hv
  obtain ⟨rfl, hW, hK, hC⟩ := hv
  have hts := atoms_spec (ws := ws_ y yc nL ret) B.pre
  have hts : ∀ w ∈ lw_all, w.before As.toArray s = true := fun w h => hts w (List.mem_cons_of_mem _ h)
  have hown : s.vm.findClass y.cls = some m.cls := findClass_of_methodNamed B.named
  rw [lg_entry_eq]
  exact body (p, l, e, xroom k σ, s, m, As.toArray, below, meth, c, MQ below (xPost g σ Q rw9) As.toArray s (CAPN - h_nx σ) (CAPS - h_us σ) (xA g)) Q σ rfl ⟨B.exec, B.bytes, hml, B.notSynchronized, hown, hts⟩ ⟨hK, hW.1, rfl, rfl, hC, hW.2.2.2.2.2.1⟩ rfl ⟨Nat.le_refl _, Nat.le_refl _⟩ B.returns (name_of_methodNamed B.named B.method).1 σ q s.heap [] 0 0 _ ⟨hW, va_S.rf, (Nat.sub_self _).symm, (Nat.sub_self _).symm, Nat.le_refl _, Nat.le_refl _, fun _ _ => ⟨rfl, rfl⟩⟩ (lv_entry As hl)
/-- what stands in a heap that the walk has come to -/
theorem xPre (E : XE X g σ0) {σ : Hp} {H : Heap} {locs : List Loc} {cs ss : Nat} (w : xWo g σ0 (cx_s X).heap σ H locs cs ss) {U : State} (hU : U.heap = H) (hW : (cx_s X).WarmedH U.vm) : xPc g σ U := by
  refine ⟨by rw [hU]; exact w.1, E.1.warm hW, ?_⟩
  refine XCst.kept (H := (cx_s X).heap) (fun x h1 h2 => ?_) (E.2.2.2.2.1.warm hW)
  rw [hU]
  exact w.2.1.2.1 x h1 h2
theorem xRoom {k k0 nL' : Nat} (E : XE X g σ0) (hR : k0 ≤ (cx_R X).frames ∧ 40 * k0 ≤ (cx_R X).locals) (hk : k + 1 ≤ k0) (hn : nL' ≤ 20) (σ : Hp) : (xroom k σ).frames + 1 ≤ (cx_R X).frames ∧ 8 + (nL' + 11) + (xroom k σ).locals ≤ (cx_R X).locals := by
  refine ⟨Nat.le_trans hk hR.1, Nat.le_trans ?_ hR.2⟩
  show 8 + (nL' + 11) + 40 * k ≤ 40 * k0
  omega
theorem xFit (E : XE X g σ0) {σ : Hp} {H : Heap} {locs : List Loc} {cs ss : Nat} (w : xWo g σ0 H0 σ H locs cs ss) : cs + (CAPN - h_nx σ) ≤ (cx_R X).cells ∧ ss + (CAPS - h_us σ) ≤ (cx_R X).slots := by
  obtain ⟨-, -, e1, e2, -⟩ := E
  obtain ⟨⟨-, h1, h2, -⟩, -, h3, h4, h5, h6, -⟩ := w
  rw [e1, e2]
  omega
theorem gx_run {f : PT Hp α} {rw9 : α → Option Value} {kf : α → Hp → P → Prop} {st0 rest : List Value} {k : Nat} {y : MethodName} {yc : ByteArray} {nL' : Nat} {ret : Option FieldType} {As : List Value} (E : XE X g σ0)
    (hrun : ∀ (σ : Hp) (Q' : α → Hp → Prop) (H : Heap) (locs : List Loc) (cs ss : Nat) (ls : Array Slot), f σ Q' → xWo g σ0 (cx_s X).heap σ H locs cs ss → lv_has ls nL L → va_Run (cx_p X) (cx_l X) (cx_e X) (cx_R X) (cx_s X) (cx_m X) (cx_a X) (cx_b X) (cx_y X) (cx_c X) H locs cs ss (CAPN - h_nx σ) (CAPS - h_us σ) (F0 (cx_m X) pc ls st0) rest (xPost g σ Q' rw9 As.toArray) (xA g))
    (kk : ∀ r, GJ X nL (xWo g σ0 (cx_s X).heap) Q (kf r) (pc + 3) L ((rw9 r).toList ++ rest)) : GJ X nL (xWo g σ0 (cx_s X).heap) Q (pbnd f kf) pc L st0 := by
  intro σ q H locs cs ss ls w l
  intro T hT Xs
  obtain ⟨v, s0, t, T', LL, h0, X', hL, e1, e2, ⟨⟨r, σ', hv, hq, hw, hus, htg⟩, hF⟩, stp⟩ := hrun σ _ H locs cs ss ls q w l T hT Xs
  cases hv
  obtain ⟨w1, hS, hc, hs, hn0, hu0, hz0⟩ := w
  have hz : H.size ≤ T'.heap.size := by rw [e1, ← h0]; exact hF.1
  have hnx : h_nx σ ≤ h_nx σ' := by
    have h1 := w1.1
    have h2 := hw.1
    rw [← e1] at h2
    omega
  have hS' : va_S (xA g) (cx_s X).heap T'.heap (locs ++ LL) := ⟨Nat.le_trans hS.1 hz, fun x h1 h2 => by
    rw [e1, hF.2 x (by rw [h0]; exact Nat.lt_of_lt_of_le h1 hS.1) h2, h0]
    exact hS.2.1 x h1 h2, fun x hx => by
    rcases List.mem_append.mp hx with h | h
    · exact hS.2.2 x h
    · exact hL x h⟩
  have hw' : XWd g σ' T'.heap := by rw [e1]; exact hw
  have hz' : ∀ p, p < h_nx σ0 → h_tg σ' p = h_tg σ0 p ∧ h_ln σ' p = h_ln σ0 p := fun p hp => by
    obtain ⟨a1, a2⟩ := hz0 p hp
    obtain ⟨b1, b2⟩ := htg p (Nat.lt_of_lt_of_le hp hn0)
    exact ⟨b1.trans a1, b2.trans a2⟩
  have hsm := X'.same
  have hsame : (cx_s X).sameButNew (T'.setVm (cx_s X).vm) (locs ++ LL) (h_nx σ' - h_nx σ0) (h_us σ' - h_us σ0) := by
    obtain ⟨s1, s2, s3, s4, s5, s6⟩ := hsm
    have hh : (T'.setVm (cx_s X).vm).heap = T'.heap := rfl
    refine ⟨s1, s2, ?_, s4, ?_, s6⟩
    · rw [hh, hw'.1, E.2.1]
      omega
    · rw [hh, E.2.1]
      have h9 := x_sum hw' (h_nx σ0) (Nat.le_trans hn0 hnx)
      rw [sumTo_congr (h := fun p => xsz (h_tg σ0 p) (h_ln σ0 p)) (fun i hi => by rw [(hz' i hi).1, (hz' i hi).2]), ← E.2.2.2.2.2] at h9
      omega
  have X'' : Stand (cx_p X) (cx_l X) (cx_e X) (cx_R X) (cx_s X) (cx_m X) (cx_a X) (cx_b X) (cx_y X) (cx_c X) T' (locs ++ LL) (h_nx σ' - h_nx σ0) (h_us σ' - h_us σ0) := { X' with same := hsame }
  obtain ⟨t2, a1, b1⟩ := kk r σ' hq T'.heap (locs ++ LL) _ _ ls ⟨hw', hS', rfl, rfl, Nat.le_trans hn0 hnx, Nat.le_trans hu0 hus, hz'⟩ l T' rfl X''
  exact ⟨t2, stp t2 a1, b1⟩
theorem x_recv {σ : Hp} {H : Heap} {p t0 : Nat} {r0 : vw_C} (K : XK g (cx_s X)) (w : XWd g σ H) (ht : h_tg σ p = t0) (hr : xcl[t0]? = some r0) : ∃ cell : Cell, H[real g p]? = some cell ∧ cell.vm.isStatics = false ∧ (cx_s X).vm.findClass r0.1 = some cell.cls := by
  obtain ⟨e, -, cell, h1, h2, h3, -⟩ := w.obj ht (xcl_lt hr)
  exact ⟨cell, by rw [e]; exact h1, by rw [h3]; rfl, by rw [h2]; exact (K.1.1 t0 r0 hr).2.1⟩
theorem gx_callV (C : GC X nL cc own) (E : XE X g σ0) {f : PT Hp α} {rw9 : α → Option Value} {kf : α → Hp → P → Prop} {As rest : List Value} {k n i : Nat} {y : MethodName} {yc : ByteArray} {nL' : Nat} {ret : Option FieldType}
    {t0 : Nat} {r0 : vw_C} (hr0 : xcl[t0]? = some r0) (hd : decode cc pc = .ok (.invokevirtual i, 3)) (hM : XMet (cx_l X) g y yc nL' ret k (rv g r :: As) f rw9) (hT : GoodIn lw_all (wsV own i y.cls y (ws_ y yc nL' ret))) (hy : y.cls ≠ "java/lang/invoke/MethodHandle" ∧ y.cls ≠ "java/lang/invoke/VarHandle" ∧ (parseMethodDescriptor y.desc).map (fun d => d.parameters.length) = some n) (hcl : r0.1 = y.cls) {k0 : Nat} (hR : k0 ≤ (cx_R X).frames ∧ 40 * k0 ≤ (cx_R X).locals) (hk : k + 1 ≤ k0) (hn' : nL' ≤ 20) (hlen : As.length = n) {st0 : List Value} (hst : st0 = As.reverse ++ rv g r :: rest) (hcat : (rest.map fun v => v.category).sum ≤ 8)
    (kk : ∀ r, GJ X nL (xWo g σ0 (cx_s X).heap) Q (kf r) (pc + 3) L ((rw9 r).toList ++ rest)) : GJ X nL (xWo g σ0 (cx_s X).heap) Q (pbnd (xrecv r t0) (fun _ => pbnd f kf)) pc L st0 := by
  subst hst
  intro σ ⟨p, e, ht, q⟩ H locs cs ss ls w l
  subst e
  refine gx_run (f := fun σ Q' => h_tg σ p = t0 ∧ f σ Q') (As := rv g (some p) :: As) (k := k) (y := y) (yc := yc) (nL' := nL') (ret := ret) E (fun σ Q' H locs cs ss ls q w l => ?_) kk σ ⟨ht, q⟩ H locs cs ss ls w l
  obtain ⟨ht, q⟩ := q
  have w0 := w.1
  exact va_runV (nL := nL) (As := As) (rest := rest) ⟨C.1, C.2.1, C.2.2.1, C.2.2.2.2.1, C.2.2.2.2.2⟩ (hM Q' σ q) (cwV n C.2.2.2.2.2 hT rfl rfl rfl ⟨rfl, hy⟩ (xRoom E hR hk hn' σ)) ⟨xPc_blind _ σ, by rw [← hcl]; exact x_recv E.1 w0 ht hr0, fun U hU hW => ⟨rfl, xPre E w hU hW⟩⟩ rfl hlen l.1 rfl (lv_room hcat) hd (xFit E w)
theorem gx_callVI (C : GC X nL cc own) (E : XE X g σ0) {f : PT Hp (Int)} {kf : Int → Hp → P → Prop} {As rest : List Value} {k n i : Nat} {y : MethodName} {yc : ByteArray} {nL' : Nat} {ret : Option FieldType}
    {t0 : Nat} {r0 : vw_C} (hr0 : xcl[t0]? = some r0) (hd : decode cc pc = .ok (.invokevirtual i, 3)) (hM : XMet (cx_l X) g y yc nL' ret k (rv g r :: As) f rvI) (hT : GoodIn lw_all (wsV own i y.cls y (ws_ y yc nL' ret))) (hy : y.cls ≠ "java/lang/invoke/MethodHandle" ∧ y.cls ≠ "java/lang/invoke/VarHandle" ∧ (parseMethodDescriptor y.desc).map (fun d => d.parameters.length) = some n) (hcl : r0.1 = y.cls) {k0 : Nat} (hR : k0 ≤ (cx_R X).frames ∧ 40 * k0 ≤ (cx_R X).locals) (hk : k + 1 ≤ k0) (hn' : nL' ≤ 20) (hlen : As.length = n) {st0 : List Value} (hst : st0 = As.reverse ++ rv g r :: rest) (hcat : (rest.map fun v => v.category).sum ≤ 8)
    (kk : ∀ r9, GJ X nL (xWo g σ0 (cx_s X).heap) Q (kf r9) (pc + 3) L (.int (iI r9) :: rest)) : GJ X nL (xWo g σ0 (cx_s X).heap) Q (pbnd (xrecv r t0) (fun _ => pbnd f kf)) pc L st0 := gx_callV C E hr0 hd hM hT hy hcl hR hk hn' hlen hst hcat kk
theorem gx_callVL (C : GC X nL cc own) (E : XE X g σ0) {f : PT Hp (Int)} {kf : Int → Hp → P → Prop} {As rest : List Value} {k n i : Nat} {y : MethodName} {yc : ByteArray} {nL' : Nat} {ret : Option FieldType}
    {t0 : Nat} {r0 : vw_C} (hr0 : xcl[t0]? = some r0) (hd : decode cc pc = .ok (.invokevirtual i, 3)) (hM : XMet (cx_l X) g y yc nL' ret k (rv g r :: As) f rvL) (hT : GoodIn lw_all (wsV own i y.cls y (ws_ y yc nL' ret))) (hy : y.cls ≠ "java/lang/invoke/MethodHandle" ∧ y.cls ≠ "java/lang/invoke/VarHandle" ∧ (parseMethodDescriptor y.desc).map (fun d => d.parameters.length) = some n) (hcl : r0.1 = y.cls) {k0 : Nat} (hR : k0 ≤ (cx_R X).frames ∧ 40 * k0 ≤ (cx_R X).locals) (hk : k + 1 ≤ k0) (hn' : nL' ≤ 20) (hlen : As.length = n) {st0 : List Value} (hst : st0 = As.reverse ++ rv g r :: rest) (hcat : (rest.map fun v => v.category).sum ≤ 8)
    (kk : ∀ r9, GJ X nL (xWo g σ0 (cx_s X).heap) Q (kf r9) (pc + 3) L (.long (iL r9) :: rest)) : GJ X nL (xWo g σ0 (cx_s X).heap) Q (pbnd (xrecv r t0) (fun _ => pbnd f kf)) pc L st0 := gx_callV C E hr0 hd hM hT hy hcl hR hk hn' hlen hst hcat kk
theorem gx_callVV (C : GC X nL cc own) (E : XE X g σ0) {f : PT Hp (Unit)} {kf : Unit → Hp → P → Prop} {As rest : List Value} {k n i : Nat} {y : MethodName} {yc : ByteArray} {nL' : Nat} {ret : Option FieldType}
    {t0 : Nat} {r0 : vw_C} (hr0 : xcl[t0]? = some r0) (hd : decode cc pc = .ok (.invokevirtual i, 3)) (hM : XMet (cx_l X) g y yc nL' ret k (rv g r :: As) f rvV) (hT : GoodIn lw_all (wsV own i y.cls y (ws_ y yc nL' ret))) (hy : y.cls ≠ "java/lang/invoke/MethodHandle" ∧ y.cls ≠ "java/lang/invoke/VarHandle" ∧ (parseMethodDescriptor y.desc).map (fun d => d.parameters.length) = some n) (hcl : r0.1 = y.cls) {k0 : Nat} (hR : k0 ≤ (cx_R X).frames ∧ 40 * k0 ≤ (cx_R X).locals) (hk : k + 1 ≤ k0) (hn' : nL' ≤ 20) (hlen : As.length = n) {st0 : List Value} (hst : st0 = As.reverse ++ rv g r :: rest) (hcat : (rest.map fun v => v.category).sum ≤ 8)
    (kk : GJ X nL (xWo g σ0 (cx_s X).heap) Q (kf ()) (pc + 3) L rest) : GJ X nL (xWo g σ0 (cx_s X).heap) Q (pbnd (xrecv r t0) (fun _ => pbnd f kf)) pc L st0 := gx_callV C E hr0 hd hM hT hy hcl hR hk hn' hlen hst hcat (fun _ => kk)
theorem gx_callVR (C : GC X nL cc own) (E : XE X g σ0) {f : PT Hp (Option Nat)} {kf : Option Nat → Hp → P → Prop} {As rest : List Value} {k n i : Nat} {y : MethodName} {yc : ByteArray} {nL' : Nat} {ret : Option FieldType}
    {t0 : Nat} {r0 : vw_C} (hr0 : xcl[t0]? = some r0) (hd : decode cc pc = .ok (.invokevirtual i, 3)) (hM : XMet (cx_l X) g y yc nL' ret k (rv g r :: As) f (rvR g)) (hT : GoodIn lw_all (wsV own i y.cls y (ws_ y yc nL' ret))) (hy : y.cls ≠ "java/lang/invoke/MethodHandle" ∧ y.cls ≠ "java/lang/invoke/VarHandle" ∧ (parseMethodDescriptor y.desc).map (fun d => d.parameters.length) = some n) (hcl : r0.1 = y.cls) {k0 : Nat} (hR : k0 ≤ (cx_R X).frames ∧ 40 * k0 ≤ (cx_R X).locals) (hk : k + 1 ≤ k0) (hn' : nL' ≤ 20) (hlen : As.length = n) {st0 : List Value} (hst : st0 = As.reverse ++ rv g r :: rest) (hcat : (rest.map fun v => v.category).sum ≤ 8)
    (kk : ∀ r9, GJ X nL (xWo g σ0 (cx_s X).heap) Q (kf r9) (pc + 3) L (rv g r9 :: rest)) : GJ X nL (xWo g σ0 (cx_s X).heap) Q (pbnd (xrecv r t0) (fun _ => pbnd f kf)) pc L st0 := gx_callV C E hr0 hd hM hT hy hcl hR hk hn' hlen hst hcat kk
theorem gx_callS (C : GC X nL cc own) (E : XE X g σ0) {f : PT Hp α} {rw9 : α → Option Value} {kf : α → Hp → P → Prop} {As rest : List Value} {k n i : Nat} {y : MethodName} {yc : ByteArray} {nL' : Nat} {ret : Option FieldType}
    (hd : decode cc pc = .ok (.invokestatic i, 3)) (hM : XMet (cx_l X) g y yc nL' ret k As f rw9) (hT : GoodIn lw_all (va_wsS own i y (ws_ y yc nL' ret))) (hy : y.cls ≠ "java/lang/invoke/MethodHandle" ∧ y.cls ≠ "java/lang/invoke/VarHandle" ∧ (parseMethodDescriptor y.desc).map (fun d => d.parameters.length) = some n) {k0 : Nat} (hR : k0 ≤ (cx_R X).frames ∧ 40 * k0 ≤ (cx_R X).locals) (hk : k + 1 ≤ k0) (hn' : nL' ≤ 20) (hlen : As.length = n) {st0 : List Value} (hst : st0 = As.reverse ++ rest) (hcat : (rest.map fun v => v.category).sum ≤ 8)
    (kk : ∀ r, GJ X nL (xWo g σ0 (cx_s X).heap) Q (kf r) (pc + 3) L ((rw9 r).toList ++ rest)) : GJ X nL (xWo g σ0 (cx_s X).heap) Q (pbnd f kf) pc L st0 := by
  subst hst
  refine gx_run (As := As) (k := k) (y := y) (yc := yc) (nL' := nL') (ret := ret) E (fun σ Q' H locs cs ss ls q w l => ?_) kk
  exact va_runS (nL := nL) (As := As) (rest := rest) ⟨C.1, C.2.1, C.2.2.1, C.2.2.2.2.1, C.2.2.2.2.2⟩ (hM Q' σ q) (va_cwS n C.2.2.2.2.2 hT rfl rfl rfl hy (xRoom E hR hk hn' σ)) ⟨xPc_blind _ σ, fun U hU hW => ⟨rfl, xPre E w hU hW⟩⟩ rfl hlen l.1 rfl (lv_room hcat) hd (xFit E w)
theorem gx_callSI (C : GC X nL cc own) (E : XE X g σ0) {f : PT Hp (Int)} {kf : Int → Hp → P → Prop} {As rest : List Value} {k n i : Nat} {y : MethodName} {yc : ByteArray} {nL' : Nat} {ret : Option FieldType}
    (hd : decode cc pc = .ok (.invokestatic i, 3)) (hM : XMet (cx_l X) g y yc nL' ret k As f rvI) (hT : GoodIn lw_all (va_wsS own i y (ws_ y yc nL' ret))) (hy : y.cls ≠ "java/lang/invoke/MethodHandle" ∧ y.cls ≠ "java/lang/invoke/VarHandle" ∧ (parseMethodDescriptor y.desc).map (fun d => d.parameters.length) = some n) {k0 : Nat} (hR : k0 ≤ (cx_R X).frames ∧ 40 * k0 ≤ (cx_R X).locals) (hk : k + 1 ≤ k0) (hn' : nL' ≤ 20) (hlen : As.length = n) {st0 : List Value} (hst : st0 = As.reverse ++ rest) (hcat : (rest.map fun v => v.category).sum ≤ 8)
    (kk : ∀ r9, GJ X nL (xWo g σ0 (cx_s X).heap) Q (kf r9) (pc + 3) L (.int (iI r9) :: rest)) : GJ X nL (xWo g σ0 (cx_s X).heap) Q (pbnd f kf) pc L st0 := gx_callS C E hd hM hT hy hR hk hn' hlen hst hcat kk
theorem gx_callSL (C : GC X nL cc own) (E : XE X g σ0) {f : PT Hp (Int)} {kf : Int → Hp → P → Prop} {As rest : List Value} {k n i : Nat} {y : MethodName} {yc : ByteArray} {nL' : Nat} {ret : Option FieldType}
    (hd : decode cc pc = .ok (.invokestatic i, 3)) (hM : XMet (cx_l X) g y yc nL' ret k As f rvL) (hT : GoodIn lw_all (va_wsS own i y (ws_ y yc nL' ret))) (hy : y.cls ≠ "java/lang/invoke/MethodHandle" ∧ y.cls ≠ "java/lang/invoke/VarHandle" ∧ (parseMethodDescriptor y.desc).map (fun d => d.parameters.length) = some n) {k0 : Nat} (hR : k0 ≤ (cx_R X).frames ∧ 40 * k0 ≤ (cx_R X).locals) (hk : k + 1 ≤ k0) (hn' : nL' ≤ 20) (hlen : As.length = n) {st0 : List Value} (hst : st0 = As.reverse ++ rest) (hcat : (rest.map fun v => v.category).sum ≤ 8)
    (kk : ∀ r9, GJ X nL (xWo g σ0 (cx_s X).heap) Q (kf r9) (pc + 3) L (.long (iL r9) :: rest)) : GJ X nL (xWo g σ0 (cx_s X).heap) Q (pbnd f kf) pc L st0 := gx_callS C E hd hM hT hy hR hk hn' hlen hst hcat kk
theorem gx_callSV (C : GC X nL cc own) (E : XE X g σ0) {f : PT Hp (Unit)} {kf : Unit → Hp → P → Prop} {As rest : List Value} {k n i : Nat} {y : MethodName} {yc : ByteArray} {nL' : Nat} {ret : Option FieldType}
    (hd : decode cc pc = .ok (.invokestatic i, 3)) (hM : XMet (cx_l X) g y yc nL' ret k As f rvV) (hT : GoodIn lw_all (va_wsS own i y (ws_ y yc nL' ret))) (hy : y.cls ≠ "java/lang/invoke/MethodHandle" ∧ y.cls ≠ "java/lang/invoke/VarHandle" ∧ (parseMethodDescriptor y.desc).map (fun d => d.parameters.length) = some n) {k0 : Nat} (hR : k0 ≤ (cx_R X).frames ∧ 40 * k0 ≤ (cx_R X).locals) (hk : k + 1 ≤ k0) (hn' : nL' ≤ 20) (hlen : As.length = n) {st0 : List Value} (hst : st0 = As.reverse ++ rest) (hcat : (rest.map fun v => v.category).sum ≤ 8)
    (kk : GJ X nL (xWo g σ0 (cx_s X).heap) Q (kf ()) (pc + 3) L rest) : GJ X nL (xWo g σ0 (cx_s X).heap) Q (pbnd f kf) pc L st0 := gx_callS C E hd hM hT hy hR hk hn' hlen hst hcat (fun _ => kk)
theorem gx_callSR (C : GC X nL cc own) (E : XE X g σ0) {f : PT Hp (Option Nat)} {kf : Option Nat → Hp → P → Prop} {As rest : List Value} {k n i : Nat} {y : MethodName} {yc : ByteArray} {nL' : Nat} {ret : Option FieldType}
    (hd : decode cc pc = .ok (.invokestatic i, 3)) (hM : XMet (cx_l X) g y yc nL' ret k As f (rvR g)) (hT : GoodIn lw_all (va_wsS own i y (ws_ y yc nL' ret))) (hy : y.cls ≠ "java/lang/invoke/MethodHandle" ∧ y.cls ≠ "java/lang/invoke/VarHandle" ∧ (parseMethodDescriptor y.desc).map (fun d => d.parameters.length) = some n) {k0 : Nat} (hR : k0 ≤ (cx_R X).frames ∧ 40 * k0 ≤ (cx_R X).locals) (hk : k + 1 ≤ k0) (hn' : nL' ≤ 20) (hlen : As.length = n) {st0 : List Value} (hst : st0 = As.reverse ++ rest) (hcat : (rest.map fun v => v.category).sum ≤ 8)
    (kk : ∀ r9, GJ X nL (xWo g σ0 (cx_s X).heap) Q (kf r9) (pc + 3) L (rv g r9 :: rest)) : GJ X nL (xWo g σ0 (cx_s X).heap) Q (pbnd f kf) pc L st0 := gx_callS C E hd hM hT hy hR hk hn' hlen hst hcat kk
theorem gx_callI (C : GC X nL cc own) (E : XE X g σ0) {f : PT Hp α} {rw9 : α → Option Value} {kf : α → Hp → P → Prop} {As rest : List Value} {k n i : Nat} {y : MethodName} {yc : ByteArray} {nL' : Nat}
    (hd : decode cc pc = .ok (.invokespecial i, 3)) (hM : XMet (cx_l X) g y yc nL' none k (rv g r :: As) f rw9) (hG : GoodIn lw_all (ws_ y yc nL' none)) (hini : Cond.initialized y.cls ∈ lw_all) (hlk : Cond.methodLink own i y ∈ lw_all) (hins : Cond.instanceMethod y ∈ lw_all) (hnm : y.name = "<init>") (hy : y.cls ≠ "java/lang/invoke/MethodHandle" ∧ y.cls ≠ "java/lang/invoke/VarHandle" ∧ (parseMethodDescriptor y.desc).map (fun d => d.parameters.length) = some n) {k0 : Nat} (hR : k0 ≤ (cx_R X).frames ∧ 40 * k0 ≤ (cx_R X).locals) (hk : k + 1 ≤ k0) (hn' : nL' ≤ 20) (hlen : As.length = n) {st0 : List Value} (hst : st0 = As.reverse ++ rv g r :: rest) (hcat : (rest.map fun v => v.category).sum ≤ 8)
    (kk : ∀ r, GJ X nL (xWo g σ0 (cx_s X).heap) Q (kf r) (pc + 3) L ((rw9 r).toList ++ rest)) : GJ X nL (xWo g σ0 (cx_s X).heap) Q (pbnd (xnn r) (fun _ => pbnd f kf)) pc L st0 := by
  subst hst
  intro σ ⟨⟨p, e⟩, q⟩ H locs cs ss ls w l
  subst e
  refine gx_run (As := rv g (some p) :: As) (k := k) (y := y) (yc := yc) (nL' := nL') (ret := none) E (fun σ Q' H locs cs ss ls q w l => ?_) kk σ q H locs cs ss ls w l
  exact va_runI (nL := nL) (As := As) (rest := rest) ⟨C.1, C.2.1, C.2.2.1, C.2.2.2.2.1, C.2.2.2.2.2⟩ (hM Q' σ q) (cwI n C.2.2.2.2.2 hG rfl rfl rfl (C.2.2.2.2.2 _ hini) (C.2.2.2.2.2 _ hlk) (C.2.2.2.2.2 _ hins) hnm hy (xRoom E hR hk hn' σ)) ⟨xPc_blind _ σ, fun U hU hW => ⟨rfl, xPre E w hU hW⟩⟩ rfl hlen l.1 rfl (lv_room hcat) hd (xFit E w)
theorem gx_callIV (C : GC X nL cc own) (E : XE X g σ0) {f : PT Hp (Unit)} {kf : Unit → Hp → P → Prop} {As rest : List Value} {k n i : Nat} {y : MethodName} {yc : ByteArray} {nL' : Nat}
    (hd : decode cc pc = .ok (.invokespecial i, 3)) (hM : XMet (cx_l X) g y yc nL' none k (rv g r :: As) f rvV) (hG : GoodIn lw_all (ws_ y yc nL' none)) (hini : Cond.initialized y.cls ∈ lw_all) (hlk : Cond.methodLink own i y ∈ lw_all) (hins : Cond.instanceMethod y ∈ lw_all) (hnm : y.name = "<init>") (hy : y.cls ≠ "java/lang/invoke/MethodHandle" ∧ y.cls ≠ "java/lang/invoke/VarHandle" ∧ (parseMethodDescriptor y.desc).map (fun d => d.parameters.length) = some n) {k0 : Nat} (hR : k0 ≤ (cx_R X).frames ∧ 40 * k0 ≤ (cx_R X).locals) (hk : k + 1 ≤ k0) (hn' : nL' ≤ 20) (hlen : As.length = n) {st0 : List Value} (hst : st0 = As.reverse ++ rv g r :: rest) (hcat : (rest.map fun v => v.category).sum ≤ 8)
    (kk : GJ X nL (xWo g σ0 (cx_s X).heap) Q (kf ()) (pc + 3) L rest) : GJ X nL (xWo g σ0 (cx_s X).heap) Q (pbnd (xnn r) (fun _ => pbnd f kf)) pc L st0 := gx_callI C E hd hM hG hini hlk hins hnm hy hR hk hn' hlen hst hcat (fun _ => kk)
theorem gx_callVN (C : GC X nL cc own) (E : XE X g σ0) {f : PT Hp α} {rw9 : α → Option Value} {kf : α → Hp → P → Prop} {As rest : List Value} {k n i : Nat} {y : MethodName} {yc : ByteArray} {nL' : Nat} {ret : Option FieldType}
    {t0 : Nat} {r0 : vw_C} (hr0 : xcl[t0]? = some r0) (hd : decode cc pc = .ok (.invokevirtual i, 3)) (hM : XMet (cx_l X) g y yc nL' ret k (rv g r :: As) f rw9) {ho : String} (hG : GoodIn lw_all (ws_ y yc nL' ret)) (hini : Cond.initialized y.cls ∈ lw_all) (hlk : Cond.methodLinkNest own i y ho ∈ lw_tbl) (hins : Cond.instanceMethod y ∈ lw_all) (hsel : Cond.selects y.cls y y ∈ lw_all) (hy : y.cls ≠ "java/lang/invoke/MethodHandle" ∧ y.cls ≠ "java/lang/invoke/VarHandle" ∧ (parseMethodDescriptor y.desc).map (fun d => d.parameters.length) = some n) (hcl : r0.1 = y.cls) {k0 : Nat} (hR : k0 ≤ (cx_R X).frames ∧ 40 * k0 ≤ (cx_R X).locals) (hk : k + 1 ≤ k0) (hn' : nL' ≤ 20) (hlen : As.length = n) {st0 : List Value} (hst : st0 = As.reverse ++ rv g r :: rest) (hcat : (rest.map fun v => v.category).sum ≤ 8)
    (kk : ∀ r, GJ X nL (xWo g σ0 (cx_s X).heap) Q (kf r) (pc + 3) L ((rw9 r).toList ++ rest)) : GJ X nL (xWo g σ0 (cx_s X).heap) Q (pbnd (xrecv r t0) (fun _ => pbnd f kf)) pc L st0 := by
  subst hst
  intro σ ⟨p, e, ht, q⟩ H locs cs ss ls w l
  subst e
  refine gx_run (f := fun σ Q' => h_tg σ p = t0 ∧ f σ Q') (As := rv g (some p) :: As) (k := k) (y := y) (yc := yc) (nL' := nL') (ret := ret) E (fun σ Q' H locs cs ss ls q w l => ?_) kk σ ⟨ht, q⟩ H locs cs ss ls w l
  obtain ⟨ht, q⟩ := q
  have w0 := w.1
  exact va_runVN (nL := nL) (As := As) (rest := rest) ⟨C.1, C.2.1, C.2.2.1, C.2.2.2.2.1, C.2.2.2.2.2⟩ (hM Q' σ q) ⟨va_cnB n C.2.2.2.2.2 hG rfl rfl rfl (E.1.2.1 _ hlk rfl) (C.2.2.2.2.2 _ hini) hy (xRoom E hR hk hn' σ), C.2.2.2.2.2 _ hins, C.2.2.2.2.2 _ hsel⟩ ⟨xPc_blind _ σ, by rw [← hcl]; exact x_recv E.1 w0 ht hr0, fun U hU hW => ⟨rfl, xPre E w hU hW⟩⟩ rfl hlen l.1 rfl (lv_room hcat) hd (xFit E w)
theorem gx_callVNI (C : GC X nL cc own) (E : XE X g σ0) {f : PT Hp (Int)} {kf : Int → Hp → P → Prop} {As rest : List Value} {k n i : Nat} {y : MethodName} {yc : ByteArray} {nL' : Nat} {ret : Option FieldType}
    {t0 : Nat} {r0 : vw_C} (hr0 : xcl[t0]? = some r0) (hd : decode cc pc = .ok (.invokevirtual i, 3)) (hM : XMet (cx_l X) g y yc nL' ret k (rv g r :: As) f rvI) {ho : String} (hG : GoodIn lw_all (ws_ y yc nL' ret)) (hini : Cond.initialized y.cls ∈ lw_all) (hlk : Cond.methodLinkNest own i y ho ∈ lw_tbl) (hins : Cond.instanceMethod y ∈ lw_all) (hsel : Cond.selects y.cls y y ∈ lw_all) (hy : y.cls ≠ "java/lang/invoke/MethodHandle" ∧ y.cls ≠ "java/lang/invoke/VarHandle" ∧ (parseMethodDescriptor y.desc).map (fun d => d.parameters.length) = some n) (hcl : r0.1 = y.cls) {k0 : Nat} (hR : k0 ≤ (cx_R X).frames ∧ 40 * k0 ≤ (cx_R X).locals) (hk : k + 1 ≤ k0) (hn' : nL' ≤ 20) (hlen : As.length = n) {st0 : List Value} (hst : st0 = As.reverse ++ rv g r :: rest) (hcat : (rest.map fun v => v.category).sum ≤ 8)
    (kk : ∀ r9, GJ X nL (xWo g σ0 (cx_s X).heap) Q (kf r9) (pc + 3) L (.int (iI r9) :: rest)) : GJ X nL (xWo g σ0 (cx_s X).heap) Q (pbnd (xrecv r t0) (fun _ => pbnd f kf)) pc L st0 := gx_callVN C E hr0 hd hM hG hini hlk hins hsel hy hcl hR hk hn' hlen hst hcat kk
theorem gx_callVNL (C : GC X nL cc own) (E : XE X g σ0) {f : PT Hp (Int)} {kf : Int → Hp → P → Prop} {As rest : List Value} {k n i : Nat} {y : MethodName} {yc : ByteArray} {nL' : Nat} {ret : Option FieldType}
    {t0 : Nat} {r0 : vw_C} (hr0 : xcl[t0]? = some r0) (hd : decode cc pc = .ok (.invokevirtual i, 3)) (hM : XMet (cx_l X) g y yc nL' ret k (rv g r :: As) f rvL) {ho : String} (hG : GoodIn lw_all (ws_ y yc nL' ret)) (hini : Cond.initialized y.cls ∈ lw_all) (hlk : Cond.methodLinkNest own i y ho ∈ lw_tbl) (hins : Cond.instanceMethod y ∈ lw_all) (hsel : Cond.selects y.cls y y ∈ lw_all) (hy : y.cls ≠ "java/lang/invoke/MethodHandle" ∧ y.cls ≠ "java/lang/invoke/VarHandle" ∧ (parseMethodDescriptor y.desc).map (fun d => d.parameters.length) = some n) (hcl : r0.1 = y.cls) {k0 : Nat} (hR : k0 ≤ (cx_R X).frames ∧ 40 * k0 ≤ (cx_R X).locals) (hk : k + 1 ≤ k0) (hn' : nL' ≤ 20) (hlen : As.length = n) {st0 : List Value} (hst : st0 = As.reverse ++ rv g r :: rest) (hcat : (rest.map fun v => v.category).sum ≤ 8)
    (kk : ∀ r9, GJ X nL (xWo g σ0 (cx_s X).heap) Q (kf r9) (pc + 3) L (.long (iL r9) :: rest)) : GJ X nL (xWo g σ0 (cx_s X).heap) Q (pbnd (xrecv r t0) (fun _ => pbnd f kf)) pc L st0 := gx_callVN C E hr0 hd hM hG hini hlk hins hsel hy hcl hR hk hn' hlen hst hcat kk
theorem gx_callVNV (C : GC X nL cc own) (E : XE X g σ0) {f : PT Hp (Unit)} {kf : Unit → Hp → P → Prop} {As rest : List Value} {k n i : Nat} {y : MethodName} {yc : ByteArray} {nL' : Nat} {ret : Option FieldType}
    {t0 : Nat} {r0 : vw_C} (hr0 : xcl[t0]? = some r0) (hd : decode cc pc = .ok (.invokevirtual i, 3)) (hM : XMet (cx_l X) g y yc nL' ret k (rv g r :: As) f rvV) {ho : String} (hG : GoodIn lw_all (ws_ y yc nL' ret)) (hini : Cond.initialized y.cls ∈ lw_all) (hlk : Cond.methodLinkNest own i y ho ∈ lw_tbl) (hins : Cond.instanceMethod y ∈ lw_all) (hsel : Cond.selects y.cls y y ∈ lw_all) (hy : y.cls ≠ "java/lang/invoke/MethodHandle" ∧ y.cls ≠ "java/lang/invoke/VarHandle" ∧ (parseMethodDescriptor y.desc).map (fun d => d.parameters.length) = some n) (hcl : r0.1 = y.cls) {k0 : Nat} (hR : k0 ≤ (cx_R X).frames ∧ 40 * k0 ≤ (cx_R X).locals) (hk : k + 1 ≤ k0) (hn' : nL' ≤ 20) (hlen : As.length = n) {st0 : List Value} (hst : st0 = As.reverse ++ rv g r :: rest) (hcat : (rest.map fun v => v.category).sum ≤ 8)
    (kk : GJ X nL (xWo g σ0 (cx_s X).heap) Q (kf ()) (pc + 3) L rest) : GJ X nL (xWo g σ0 (cx_s X).heap) Q (pbnd (xrecv r t0) (fun _ => pbnd f kf)) pc L st0 := gx_callVN C E hr0 hd hM hG hini hlk hins hsel hy hcl hR hk hn' hlen hst hcat (fun _ => kk)
theorem gx_callVNR (C : GC X nL cc own) (E : XE X g σ0) {f : PT Hp (Option Nat)} {kf : Option Nat → Hp → P → Prop} {As rest : List Value} {k n i : Nat} {y : MethodName} {yc : ByteArray} {nL' : Nat} {ret : Option FieldType}
    {t0 : Nat} {r0 : vw_C} (hr0 : xcl[t0]? = some r0) (hd : decode cc pc = .ok (.invokevirtual i, 3)) (hM : XMet (cx_l X) g y yc nL' ret k (rv g r :: As) f (rvR g)) {ho : String} (hG : GoodIn lw_all (ws_ y yc nL' ret)) (hini : Cond.initialized y.cls ∈ lw_all) (hlk : Cond.methodLinkNest own i y ho ∈ lw_tbl) (hins : Cond.instanceMethod y ∈ lw_all) (hsel : Cond.selects y.cls y y ∈ lw_all) (hy : y.cls ≠ "java/lang/invoke/MethodHandle" ∧ y.cls ≠ "java/lang/invoke/VarHandle" ∧ (parseMethodDescriptor y.desc).map (fun d => d.parameters.length) = some n) (hcl : r0.1 = y.cls) {k0 : Nat} (hR : k0 ≤ (cx_R X).frames ∧ 40 * k0 ≤ (cx_R X).locals) (hk : k + 1 ≤ k0) (hn' : nL' ≤ 20) (hlen : As.length = n) {st0 : List Value} (hst : st0 = As.reverse ++ rv g r :: rest) (hcat : (rest.map fun v => v.category).sum ≤ 8)
    (kk : ∀ r9, GJ X nL (xWo g σ0 (cx_s X).heap) Q (kf r9) (pc + 3) L (rv g r9 :: rest)) : GJ X nL (xWo g σ0 (cx_s X).heap) Q (pbnd (xrecv r t0) (fun _ => pbnd f kf)) pc L st0 := gx_callVN C E hr0 hd hM hG hini hlk hins hsel hy hcl hR hk hn' hlen hst hcat kk
theorem gx_callSN (C : GC X nL cc own) (E : XE X g σ0) {f : PT Hp α} {rw9 : α → Option Value} {kf : α → Hp → P → Prop} {As rest : List Value} {k n i : Nat} {y : MethodName} {yc : ByteArray} {nL' : Nat} {ret : Option FieldType}
    (hd : decode cc pc = .ok (.invokestatic i, 3)) (hM : XMet (cx_l X) g y yc nL' ret k As f rw9) {ho : String} (hG : GoodIn lw_all (ws_ y yc nL' ret)) (hini : Cond.initialized y.cls ∈ lw_all) (hlk : Cond.methodLinkNest own i y ho ∈ lw_tbl) (hstt : Cond.static y ∈ lw_all) (hy : y.cls ≠ "java/lang/invoke/MethodHandle" ∧ y.cls ≠ "java/lang/invoke/VarHandle" ∧ (parseMethodDescriptor y.desc).map (fun d => d.parameters.length) = some n) {k0 : Nat} (hR : k0 ≤ (cx_R X).frames ∧ 40 * k0 ≤ (cx_R X).locals) (hk : k + 1 ≤ k0) (hn' : nL' ≤ 20) (hlen : As.length = n) {st0 : List Value} (hst : st0 = As.reverse ++ rest) (hcat : (rest.map fun v => v.category).sum ≤ 8)
    (kk : ∀ r, GJ X nL (xWo g σ0 (cx_s X).heap) Q (kf r) (pc + 3) L ((rw9 r).toList ++ rest)) : GJ X nL (xWo g σ0 (cx_s X).heap) Q (pbnd f kf) pc L st0 := by
  subst hst
  refine gx_run (As := As) (k := k) (y := y) (yc := yc) (nL' := nL') (ret := ret) E (fun σ Q' H locs cs ss ls q w l => ?_) kk
  exact va_runSN (nL := nL) (As := As) (rest := rest) ⟨C.1, C.2.1, C.2.2.1, C.2.2.2.2.1, C.2.2.2.2.2⟩ (hM Q' σ q) ⟨va_cnB n C.2.2.2.2.2 hG rfl rfl rfl (E.1.2.1 _ hlk rfl) (C.2.2.2.2.2 _ hini) hy (xRoom E hR hk hn' σ), C.2.2.2.2.2 _ hstt, trivial⟩ ⟨xPc_blind _ σ, fun U hU hW => ⟨rfl, xPre E w hU hW⟩⟩ rfl hlen l.1 rfl (lv_room hcat) hd (xFit E w)
theorem gx_callSNI (C : GC X nL cc own) (E : XE X g σ0) {f : PT Hp (Int)} {kf : Int → Hp → P → Prop} {As rest : List Value} {k n i : Nat} {y : MethodName} {yc : ByteArray} {nL' : Nat} {ret : Option FieldType}
    (hd : decode cc pc = .ok (.invokestatic i, 3)) (hM : XMet (cx_l X) g y yc nL' ret k As f rvI) {ho : String} (hG : GoodIn lw_all (ws_ y yc nL' ret)) (hini : Cond.initialized y.cls ∈ lw_all) (hlk : Cond.methodLinkNest own i y ho ∈ lw_tbl) (hstt : Cond.static y ∈ lw_all) (hy : y.cls ≠ "java/lang/invoke/MethodHandle" ∧ y.cls ≠ "java/lang/invoke/VarHandle" ∧ (parseMethodDescriptor y.desc).map (fun d => d.parameters.length) = some n) {k0 : Nat} (hR : k0 ≤ (cx_R X).frames ∧ 40 * k0 ≤ (cx_R X).locals) (hk : k + 1 ≤ k0) (hn' : nL' ≤ 20) (hlen : As.length = n) {st0 : List Value} (hst : st0 = As.reverse ++ rest) (hcat : (rest.map fun v => v.category).sum ≤ 8)
    (kk : ∀ r9, GJ X nL (xWo g σ0 (cx_s X).heap) Q (kf r9) (pc + 3) L (.int (iI r9) :: rest)) : GJ X nL (xWo g σ0 (cx_s X).heap) Q (pbnd f kf) pc L st0 := gx_callSN C E hd hM hG hini hlk hstt hy hR hk hn' hlen hst hcat kk
theorem gx_callSNL (C : GC X nL cc own) (E : XE X g σ0) {f : PT Hp (Int)} {kf : Int → Hp → P → Prop} {As rest : List Value} {k n i : Nat} {y : MethodName} {yc : ByteArray} {nL' : Nat} {ret : Option FieldType}
    (hd : decode cc pc = .ok (.invokestatic i, 3)) (hM : XMet (cx_l X) g y yc nL' ret k As f rvL) {ho : String} (hG : GoodIn lw_all (ws_ y yc nL' ret)) (hini : Cond.initialized y.cls ∈ lw_all) (hlk : Cond.methodLinkNest own i y ho ∈ lw_tbl) (hstt : Cond.static y ∈ lw_all) (hy : y.cls ≠ "java/lang/invoke/MethodHandle" ∧ y.cls ≠ "java/lang/invoke/VarHandle" ∧ (parseMethodDescriptor y.desc).map (fun d => d.parameters.length) = some n) {k0 : Nat} (hR : k0 ≤ (cx_R X).frames ∧ 40 * k0 ≤ (cx_R X).locals) (hk : k + 1 ≤ k0) (hn' : nL' ≤ 20) (hlen : As.length = n) {st0 : List Value} (hst : st0 = As.reverse ++ rest) (hcat : (rest.map fun v => v.category).sum ≤ 8)
    (kk : ∀ r9, GJ X nL (xWo g σ0 (cx_s X).heap) Q (kf r9) (pc + 3) L (.long (iL r9) :: rest)) : GJ X nL (xWo g σ0 (cx_s X).heap) Q (pbnd f kf) pc L st0 := gx_callSN C E hd hM hG hini hlk hstt hy hR hk hn' hlen hst hcat kk
theorem gx_callSNV (C : GC X nL cc own) (E : XE X g σ0) {f : PT Hp (Unit)} {kf : Unit → Hp → P → Prop} {As rest : List Value} {k n i : Nat} {y : MethodName} {yc : ByteArray} {nL' : Nat} {ret : Option FieldType}
    (hd : decode cc pc = .ok (.invokestatic i, 3)) (hM : XMet (cx_l X) g y yc nL' ret k As f rvV) {ho : String} (hG : GoodIn lw_all (ws_ y yc nL' ret)) (hini : Cond.initialized y.cls ∈ lw_all) (hlk : Cond.methodLinkNest own i y ho ∈ lw_tbl) (hstt : Cond.static y ∈ lw_all) (hy : y.cls ≠ "java/lang/invoke/MethodHandle" ∧ y.cls ≠ "java/lang/invoke/VarHandle" ∧ (parseMethodDescriptor y.desc).map (fun d => d.parameters.length) = some n) {k0 : Nat} (hR : k0 ≤ (cx_R X).frames ∧ 40 * k0 ≤ (cx_R X).locals) (hk : k + 1 ≤ k0) (hn' : nL' ≤ 20) (hlen : As.length = n) {st0 : List Value} (hst : st0 = As.reverse ++ rest) (hcat : (rest.map fun v => v.category).sum ≤ 8)
    (kk : GJ X nL (xWo g σ0 (cx_s X).heap) Q (kf ()) (pc + 3) L rest) : GJ X nL (xWo g σ0 (cx_s X).heap) Q (pbnd f kf) pc L st0 := gx_callSN C E hd hM hG hini hlk hstt hy hR hk hn' hlen hst hcat (fun _ => kk)
theorem gx_callSNR (C : GC X nL cc own) (E : XE X g σ0) {f : PT Hp (Option Nat)} {kf : Option Nat → Hp → P → Prop} {As rest : List Value} {k n i : Nat} {y : MethodName} {yc : ByteArray} {nL' : Nat} {ret : Option FieldType}
    (hd : decode cc pc = .ok (.invokestatic i, 3)) (hM : XMet (cx_l X) g y yc nL' ret k As f (rvR g)) {ho : String} (hG : GoodIn lw_all (ws_ y yc nL' ret)) (hini : Cond.initialized y.cls ∈ lw_all) (hlk : Cond.methodLinkNest own i y ho ∈ lw_tbl) (hstt : Cond.static y ∈ lw_all) (hy : y.cls ≠ "java/lang/invoke/MethodHandle" ∧ y.cls ≠ "java/lang/invoke/VarHandle" ∧ (parseMethodDescriptor y.desc).map (fun d => d.parameters.length) = some n) {k0 : Nat} (hR : k0 ≤ (cx_R X).frames ∧ 40 * k0 ≤ (cx_R X).locals) (hk : k + 1 ≤ k0) (hn' : nL' ≤ 20) (hlen : As.length = n) {st0 : List Value} (hst : st0 = As.reverse ++ rest) (hcat : (rest.map fun v => v.category).sum ≤ 8)
    (kk : ∀ r9, GJ X nL (xWo g σ0 (cx_s X).heap) Q (kf r9) (pc + 3) L (rv g r9 :: rest)) : GJ X nL (xWo g σ0 (cx_s X).heap) Q (pbnd f kf) pc L st0 := gx_callSN C E hd hM hG hini hlk hstt hy hR hk hn' hlen hst hcat kk
theorem gx_callIN (C : GC X nL cc own) (E : XE X g σ0) {f : PT Hp α} {rw9 : α → Option Value} {kf : α → Hp → P → Prop} {As rest : List Value} {k n i : Nat} {y : MethodName} {yc : ByteArray} {nL' : Nat}
    (hd : decode cc pc = .ok (.invokespecial i, 3)) (hM : XMet (cx_l X) g y yc nL' none k (rv g r :: As) f rw9) {ho : String} (hG : GoodIn lw_all (ws_ y yc nL' none)) (hini : Cond.initialized y.cls ∈ lw_all) (hlk : Cond.methodLinkNest own i y ho ∈ lw_tbl) (hins : Cond.instanceMethod y ∈ lw_all) (hnm : y.name = "<init>") (hy : y.cls ≠ "java/lang/invoke/MethodHandle" ∧ y.cls ≠ "java/lang/invoke/VarHandle" ∧ (parseMethodDescriptor y.desc).map (fun d => d.parameters.length) = some n) {k0 : Nat} (hR : k0 ≤ (cx_R X).frames ∧ 40 * k0 ≤ (cx_R X).locals) (hk : k + 1 ≤ k0) (hn' : nL' ≤ 20) (hlen : As.length = n) {st0 : List Value} (hst : st0 = As.reverse ++ rv g r :: rest) (hcat : (rest.map fun v => v.category).sum ≤ 8)
    (kk : ∀ r, GJ X nL (xWo g σ0 (cx_s X).heap) Q (kf r) (pc + 3) L ((rw9 r).toList ++ rest)) : GJ X nL (xWo g σ0 (cx_s X).heap) Q (pbnd (xnn r) (fun _ => pbnd f kf)) pc L st0 := by
  subst hst
  intro σ ⟨⟨p, e⟩, q⟩ H locs cs ss ls w l
  subst e
  refine gx_run (As := rv g (some p) :: As) (k := k) (y := y) (yc := yc) (nL' := nL') (ret := none) E (fun σ Q' H locs cs ss ls q w l => ?_) kk σ q H locs cs ss ls w l
  exact va_runIN (nL := nL) (As := As) (rest := rest) ⟨C.1, C.2.1, C.2.2.1, C.2.2.2.2.1, C.2.2.2.2.2⟩ (hM Q' σ q) ⟨va_cnB n C.2.2.2.2.2 hG rfl rfl rfl (E.1.2.1 _ hlk rfl) (C.2.2.2.2.2 _ hini) hy (xRoom E hR hk hn' σ), hnm, C.2.2.2.2.2 _ hins⟩ ⟨xPc_blind _ σ, fun U hU hW => ⟨rfl, xPre E w hU hW⟩⟩ rfl hlen l.1 rfl (lv_room hcat) hd (xFit E w)
theorem gx_callINV (C : GC X nL cc own) (E : XE X g σ0) {f : PT Hp (Unit)} {kf : Unit → Hp → P → Prop} {As rest : List Value} {k n i : Nat} {y : MethodName} {yc : ByteArray} {nL' : Nat}
    (hd : decode cc pc = .ok (.invokespecial i, 3)) (hM : XMet (cx_l X) g y yc nL' none k (rv g r :: As) f rvV) {ho : String} (hG : GoodIn lw_all (ws_ y yc nL' none)) (hini : Cond.initialized y.cls ∈ lw_all) (hlk : Cond.methodLinkNest own i y ho ∈ lw_tbl) (hins : Cond.instanceMethod y ∈ lw_all) (hnm : y.name = "<init>") (hy : y.cls ≠ "java/lang/invoke/MethodHandle" ∧ y.cls ≠ "java/lang/invoke/VarHandle" ∧ (parseMethodDescriptor y.desc).map (fun d => d.parameters.length) = some n) {k0 : Nat} (hR : k0 ≤ (cx_R X).frames ∧ 40 * k0 ≤ (cx_R X).locals) (hk : k + 1 ≤ k0) (hn' : nL' ≤ 20) (hlen : As.length = n) {st0 : List Value} (hst : st0 = As.reverse ++ rv g r :: rest) (hcat : (rest.map fun v => v.category).sum ≤ 8)
    (kk : GJ X nL (xWo g σ0 (cx_s X).heap) Q (kf ()) (pc + 3) L rest) : GJ X nL (xWo g σ0 (cx_s X).heap) Q (pbnd (xnn r) (fun _ => pbnd f kf)) pc L st0 := gx_callIN C E hd hM hG hini hlk hins hnm hy hR hk hn' hlen hst hcat (fun _ => kk)
theorem gx_callU (C : GC X nL cc own) (E : XE X g σ0) {f : PT Hp α} {rw9 : α → Option Value} {kf : α → Hp → P → Prop} {As rest : List Value} {k n i : Nat} {y : MethodName} {yc : ByteArray} {nL' : Nat} {ret : Option FieldType}
    {t0 : Nat} {r0 : vw_C} (hr0 : xcl[t0]? = some r0) (hd : decode cc pc = .ok (.invokevirtual i, 3)) (hM : XMet (cx_l X) g y yc nL' ret k (rv g r :: As) f rw9) {x : MethodName} {owner : String} (hT : ∀ (σ : Hp), va_CU (cx_R X) (cx_s X) (cx_a X) own r0.1 owner i x y yc nL' ret (ws_ y yc nL' ret) (xroom k σ) (CAPN - h_nx σ) (CAPS - h_us σ) n) {k0 : Nat} (hR : k0 ≤ (cx_R X).frames ∧ 40 * k0 ≤ (cx_R X).locals) (hk : k + 1 ≤ k0) (hn' : nL' ≤ 20) (hlen : As.length = n) {st0 : List Value} (hst : st0 = As.reverse ++ rv g r :: rest) (hcat : (rest.map fun v => v.category).sum ≤ 8)
    (kk : ∀ r, GJ X nL (xWo g σ0 (cx_s X).heap) Q (kf r) (pc + 3) L ((rw9 r).toList ++ rest)) : GJ X nL (xWo g σ0 (cx_s X).heap) Q (pbnd (xrecv r t0) (fun _ => pbnd f kf)) pc L st0 := by
  subst hst
  intro σ ⟨p, e, ht, q⟩ H locs cs ss ls w l
  subst e
  refine gx_run (f := fun σ Q' => h_tg σ p = t0 ∧ f σ Q') (As := rv g (some p) :: As) (k := k) (y := y) (yc := yc) (nL' := nL') (ret := ret) E (fun σ Q' H locs cs ss ls q w l => ?_) kk σ ⟨ht, q⟩ H locs cs ss ls w l
  obtain ⟨ht, q⟩ := q
  have w0 := w.1
  exact va_runU (nL := nL) (As := As) (rest := rest) ⟨C.1, C.2.1, C.2.2.1, C.2.2.2.2.1, C.2.2.2.2.2⟩ (hM Q' σ q) (hT σ) ⟨xPc_blind _ σ, x_recv E.1 w0 ht hr0, fun U hU hW => ⟨rfl, xPre E w hU hW⟩⟩ rfl hlen l.1 rfl (lv_room hcat) hd (xFit E w)
theorem gx_callUI (C : GC X nL cc own) (E : XE X g σ0) {f : PT Hp (Int)} {kf : Int → Hp → P → Prop} {As rest : List Value} {k n i : Nat} {y : MethodName} {yc : ByteArray} {nL' : Nat} {ret : Option FieldType}
    {t0 : Nat} {r0 : vw_C} (hr0 : xcl[t0]? = some r0) (hd : decode cc pc = .ok (.invokevirtual i, 3)) (hM : XMet (cx_l X) g y yc nL' ret k (rv g r :: As) f rvI) {x : MethodName} {owner : String} (hT : ∀ (σ : Hp), va_CU (cx_R X) (cx_s X) (cx_a X) own r0.1 owner i x y yc nL' ret (ws_ y yc nL' ret) (xroom k σ) (CAPN - h_nx σ) (CAPS - h_us σ) n) {k0 : Nat} (hR : k0 ≤ (cx_R X).frames ∧ 40 * k0 ≤ (cx_R X).locals) (hk : k + 1 ≤ k0) (hn' : nL' ≤ 20) (hlen : As.length = n) {st0 : List Value} (hst : st0 = As.reverse ++ rv g r :: rest) (hcat : (rest.map fun v => v.category).sum ≤ 8)
    (kk : ∀ r9, GJ X nL (xWo g σ0 (cx_s X).heap) Q (kf r9) (pc + 3) L (.int (iI r9) :: rest)) : GJ X nL (xWo g σ0 (cx_s X).heap) Q (pbnd (xrecv r t0) (fun _ => pbnd f kf)) pc L st0 := gx_callU C E hr0 hd hM hT hR hk hn' hlen hst hcat kk
theorem gx_callUL (C : GC X nL cc own) (E : XE X g σ0) {f : PT Hp (Int)} {kf : Int → Hp → P → Prop} {As rest : List Value} {k n i : Nat} {y : MethodName} {yc : ByteArray} {nL' : Nat} {ret : Option FieldType}
    {t0 : Nat} {r0 : vw_C} (hr0 : xcl[t0]? = some r0) (hd : decode cc pc = .ok (.invokevirtual i, 3)) (hM : XMet (cx_l X) g y yc nL' ret k (rv g r :: As) f rvL) {x : MethodName} {owner : String} (hT : ∀ (σ : Hp), va_CU (cx_R X) (cx_s X) (cx_a X) own r0.1 owner i x y yc nL' ret (ws_ y yc nL' ret) (xroom k σ) (CAPN - h_nx σ) (CAPS - h_us σ) n) {k0 : Nat} (hR : k0 ≤ (cx_R X).frames ∧ 40 * k0 ≤ (cx_R X).locals) (hk : k + 1 ≤ k0) (hn' : nL' ≤ 20) (hlen : As.length = n) {st0 : List Value} (hst : st0 = As.reverse ++ rv g r :: rest) (hcat : (rest.map fun v => v.category).sum ≤ 8)
    (kk : ∀ r9, GJ X nL (xWo g σ0 (cx_s X).heap) Q (kf r9) (pc + 3) L (.long (iL r9) :: rest)) : GJ X nL (xWo g σ0 (cx_s X).heap) Q (pbnd (xrecv r t0) (fun _ => pbnd f kf)) pc L st0 := gx_callU C E hr0 hd hM hT hR hk hn' hlen hst hcat kk
theorem gx_callUV (C : GC X nL cc own) (E : XE X g σ0) {f : PT Hp (Unit)} {kf : Unit → Hp → P → Prop} {As rest : List Value} {k n i : Nat} {y : MethodName} {yc : ByteArray} {nL' : Nat} {ret : Option FieldType}
    {t0 : Nat} {r0 : vw_C} (hr0 : xcl[t0]? = some r0) (hd : decode cc pc = .ok (.invokevirtual i, 3)) (hM : XMet (cx_l X) g y yc nL' ret k (rv g r :: As) f rvV) {x : MethodName} {owner : String} (hT : ∀ (σ : Hp), va_CU (cx_R X) (cx_s X) (cx_a X) own r0.1 owner i x y yc nL' ret (ws_ y yc nL' ret) (xroom k σ) (CAPN - h_nx σ) (CAPS - h_us σ) n) {k0 : Nat} (hR : k0 ≤ (cx_R X).frames ∧ 40 * k0 ≤ (cx_R X).locals) (hk : k + 1 ≤ k0) (hn' : nL' ≤ 20) (hlen : As.length = n) {st0 : List Value} (hst : st0 = As.reverse ++ rv g r :: rest) (hcat : (rest.map fun v => v.category).sum ≤ 8)
    (kk : GJ X nL (xWo g σ0 (cx_s X).heap) Q (kf ()) (pc + 3) L rest) : GJ X nL (xWo g σ0 (cx_s X).heap) Q (pbnd (xrecv r t0) (fun _ => pbnd f kf)) pc L st0 := gx_callU C E hr0 hd hM hT hR hk hn' hlen hst hcat (fun _ => kk)
theorem gx_callUR (C : GC X nL cc own) (E : XE X g σ0) {f : PT Hp (Option Nat)} {kf : Option Nat → Hp → P → Prop} {As rest : List Value} {k n i : Nat} {y : MethodName} {yc : ByteArray} {nL' : Nat} {ret : Option FieldType}
    {t0 : Nat} {r0 : vw_C} (hr0 : xcl[t0]? = some r0) (hd : decode cc pc = .ok (.invokevirtual i, 3)) (hM : XMet (cx_l X) g y yc nL' ret k (rv g r :: As) f (rvR g)) {x : MethodName} {owner : String} (hT : ∀ (σ : Hp), va_CU (cx_R X) (cx_s X) (cx_a X) own r0.1 owner i x y yc nL' ret (ws_ y yc nL' ret) (xroom k σ) (CAPN - h_nx σ) (CAPS - h_us σ) n) {k0 : Nat} (hR : k0 ≤ (cx_R X).frames ∧ 40 * k0 ≤ (cx_R X).locals) (hk : k + 1 ≤ k0) (hn' : nL' ≤ 20) (hlen : As.length = n) {st0 : List Value} (hst : st0 = As.reverse ++ rv g r :: rest) (hcat : (rest.map fun v => v.category).sum ≤ 8)
    (kk : ∀ r9, GJ X nL (xWo g σ0 (cx_s X).heap) Q (kf r9) (pc + 3) L (rv g r9 :: rest)) : GJ X nL (xWo g σ0 (cx_s X).heap) Q (pbnd (xrecv r t0) (fun _ => pbnd f kf)) pc L st0 := gx_callU C E hr0 hd hM hT hR hk hn' hlen hst hcat kk
end XCALLS
