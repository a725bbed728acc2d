/-! THE MODEL's METHODS within the component's world: one object and its arrays, as the model's rows have them. -/
def gm (g : XG) (am : Nat) : MG := (g.1, g.2.1, g.2.2.1 + am)
/-- the model stands at am -/
def isM (am : Nat) (σ : Hp) : Prop := am + 25 ≤ h_nx σ ∧ h_tg σ am = 0 ∧ (∀ j, j < 25 → j ≠ 0 → h_tg σ (am + j) = 40 + (mtab j).1 ∧ h_ln σ (am + j) = (mtab j).2) ∧ ∀ k, k < 43 → mref k ≠ 0 → h_R σ am k = some (am + mref k)
def vM (am : Nat) (σ : Hp) : MS := fun j i => h_I σ (am + j) i
def pM (am : Nat) (σ : Hp) (μ : MS) : Hp := (h_tg σ, h_ln σ, fun p i => if am ≤ p ∧ p < am + 25 then μ (p - am) i else h_I σ p i, h_R σ, h_nx σ, h_us σ)
def xM {α : Type} (r : Option Nat) (f : MM α) : PT Hp α := fun σ Q => ∃ am, r = some am ∧ isM am σ ∧ f (vM am σ) (fun a μ => Q a (pM am σ μ))
theorem pl_arr {cell : Cell} {cA : ClassId} {n : Nat} {V : Nat → Value} (h1 : cell.cls = cA) (h2 : cell.vm = .none) (h3 : cell.slots.size = n) (h4 : ∀ k, k < n → cell.slots[k]? = some (V k)) (hp : Pl cell) : cell = arrV cA n V := by
  have hs : cell.slots = (arrV cA n V).slots := by
    apply Array.ext_getElem?
    intro i
    by_cases hi : i < n
    · rw [h4 i hi, arrV_read _ _ hi]
    · rw [Array.getElem?_eq_none (by omega), Array.getElem?_eq_none (by rw [arrV_size]; omega)]
  obtain ⟨c, sl, mo, ha, v⟩ := cell
  obtain ⟨p1, p2⟩ := hp
  simp only at h1 h2 hs p1 p2
  subst h1 h2 p1 p2
  rw [hs]
  rfl
theorem mfv_ok : ∀ k, k < 43 → (k = 30 ↔ fkd 0 k = 1) ∧ (mref k ≠ 0 ↔ fkd 0 k = 2) := by decide +kernel
theorem isM_lt {am : Nat} {σ : Hp} (h : isM am σ) {j : Nat} (hj : j < 25) : am + j < h_nx σ := by
  have := h.1
  omega
theorem M_of {g : XG} {σ : Hp} {H : Heap} {am : Nat} (w : XWd g σ H) (h : isM am σ) : MWd (gm g am) (vM am σ) H := by
  intro k q hk
  obtain ⟨hk25, rfl⟩ := mws_inv hk
  obtain ⟨hn, h0, ha, hf⟩ := h
  by_cases hk0 : k = 0
  · subst hk0
    obtain ⟨e, hp, hx⟩ := w.obj h0 (by decide)
    refine ⟨_, rfl, ?_⟩
    obtain ⟨cell, x1, x2, x3, x4, x5⟩ := hx
    refine ⟨cell, x1, x2, x3, fun j hj => ?_⟩
    have hj43 : j < 43 := hj
    refine (x5 j hj43).trans ?_
    show some (xval g 0 (h_I σ am) (h_R σ am) j) = some (vp_V (mflds (g.2.2.1 + am) (vM am σ)) j)
    have e1 : vp_V (mflds (g.2.2.1 + am) (vM am σ)) j = mfv (g.2.2.1 + am) (vM am σ) j := by
      unfold vp_V mflds
      rw [List.getD_eq_getElem?_getD, List.getElem?_map, List.getElem?_range hj43]
      rfl
    rw [e1]
    obtain ⟨q1, q2⟩ := mfv_ok j hj43
    unfold mfv
    by_cases h30 : j = 30
    · rw [if_pos h30, xval_l (by decide) (q1.mp h30)]
      rfl
    · rw [if_neg h30]
      by_cases hr : mref j = 0
      · rw [if_pos hr]
        have hz : fkd 0 j = 0 := by
          have hle : ∀ j, j < 43 → fkd 0 j < 3 := by decide
          have := hle j hj43
          have a1 : fkd 0 j ≠ 1 := fun z => h30 (q1.mpr z)
          have a2 : fkd 0 j ≠ 2 := fun z => q2.mpr z hr
          omega
        rw [xval_i (by decide) hz]
        rfl
      · rw [if_neg hr, xval_r (by decide) (q2.mp hr), hf j hj43 hr]
        show some (Value.ref (real g (am + mref j))) = _
        have hm : mref j < 25 := by
          have : ∀ j, j < 43 → mref j < 25 := by decide
          exact this j hj43
        rw [real_lt (n := h_nx σ) (by omega) w.2.1]
        rw [Nat.add_assoc]
  · obtain ⟨t1, t2⟩ := ha k hk25 hk0
    have h3 := mtab_obj k hk25 hk0
    obtain ⟨e, hp, cell, x1, x2, x3, x4, x5⟩ := w.arr t1 (by omega)
    have hpl : Pl cell := by
      obtain ⟨-, -, c9, y1, y2⟩ := w.2.2.2.1 (am + k) (by rw [t1]; exact Or.inr ⟨by omega, by omega⟩)
      cases x1.symm.trans y1
      exact y2
    rw [t2] at x4 x5
    have hc := pl_arr x2 x3 x4 (fun j hj => x5 j hj) hpl
    have ea : (gm g am).2.2 + k = g.2.2.1 + (am + k) := Nat.add_assoc _ _ _
    show va_at _ _ ((gm g am).2.2 + k, mcell (gm g am) (vM am σ) k) H
    rw [ea]
    revert hc h3
    generalize hm : mtab k = mt
    obtain ⟨ty, n⟩ := mt
    intro h3 hc
    have h3 : ty < 3 := h3
    match ty, h3, hm, hc with
    | 0, _, hm, hc => rw [mcell_i hm]; show H[_]? = _; rw [x1, hc]; rfl
    | 1, _, hm, hc => rw [mcell_l hm]; show H[_]? = _; rw [x1, hc]; rfl
    | 2, _, hm, hc => rw [mcell_z hm]; show H[_]? = _; rw [x1, hc]; rfl
theorem mfv_val {g : XG} {σ : Hp} {am : Nat} {μ : MS} (h : isM am σ) (hc : h_nx σ ≤ CAPN) {j : Nat} (hj43 : j < 43) : mfv (g.2.2.1 + am) μ j = xval g 0 (μ 0) (h_R σ am) j := by
  obtain ⟨q1, q2⟩ := mfv_ok j hj43
  unfold mfv
  by_cases h30 : j = 30
  · rw [if_pos h30, xval_l (by decide) (q1.mp h30)]
  · rw [if_neg h30]
    by_cases hr : mref j = 0
    · rw [if_pos hr]
      have hz : fkd 0 j = 0 := by
        have hle : ∀ j, j < 43 → fkd 0 j < 3 := by decide
        have := hle j hj43
        have a1 : fkd 0 j ≠ 1 := fun z => h30 (q1.mpr z)
        have a2 : fkd 0 j ≠ 2 := fun z => q2.mpr z hr
        omega
      rw [xval_i (by decide) hz]
    · rw [if_neg hr, xval_r (by decide) (q2.mp hr), h.2.2.2 j hj43 hr]
      show _ = Value.ref (real g (am + mref j))
      have hm : mref j < 25 := by
        have : ∀ j, j < 43 → mref j < 25 := by decide
        exact this j hj43
      rw [real_lt (n := h_nx σ) (isM_lt h hm) hc, Nat.add_assoc]
theorem mflds_at (a : Nat) (μ : MS) {j : Nat} (hj : j < 43) : vp_V (mflds a μ) j = mfv a μ j := by
  unfold vp_V mflds
  rw [List.getD_eq_getElem?_getD, List.getElem?_map, List.getElem?_range hj]
  rfl
theorem pM_in {am : Nat} {σ : Hp} {μ : MS} {j : Nat} (h : j < 25) : h_I (pM am σ μ) (am + j) = μ j := by
  funext i
  show (if am ≤ am + j ∧ am + j < am + 25 then μ (am + j - am) i else h_I σ (am + j) i) = _
  rw [if_pos ⟨by omega, by omega⟩, Nat.add_sub_cancel_left]
theorem pM_out {am : Nat} {σ : Hp} {μ : MS} {p : Nat} (h : ¬ (am ≤ p ∧ p < am + 25)) : h_I (pM am σ μ) p = h_I σ p := by
  funext i
  exact if_neg h
theorem M_back {g : XG} {σ : Hp} {H H1 : Heap} {am : Nat} {μ : MS} (w : XWd g σ H) (h : isM am σ) (m : MWd (gm g am) μ H1) (hz : H1.size = H.size) (ho : ∀ q : Nat, ¬ (g.2.2.1 + am ≤ q ∧ q < g.2.2.1 + am + 25) → q < H.size → H1[q]? = H[q]?)
    (hc : ∀ (a : Nat) (c : Cell), H[a]? = some c → ∃ c' : Cell, H1[a]? = some c' ∧ c' = { c with slots := c'.slots } ∧ c'.slots.size = c.slots.size) : XWd g (pM am σ μ) H1 := by
  obtain ⟨w1, w2, w3, w4, w5, w6, w7⟩ := id w
  obtain ⟨hn, h0, ha, hf⟩ := id h
  have key : ∀ j, j < 25 → XCell g (pM am σ μ) H1 (am + j) := by
    intro j hj
    have hx := m j _ (mws_get (gm g am) μ hj)
    have ea : (gm g am).2.2 + j = g.2.2.1 + (am + j) := Nat.add_assoc _ _ _
    rw [ea] at hx
    refine ⟨?_, ?_⟩
    · unfold XCellA
      show XAt H1 _ (xcid g (h_tg σ (am + j))) (xsz (h_tg σ (am + j)) (h_ln σ (am + j))) (xis g (h_tg σ (am + j))) (xval g (h_tg σ (am + j)) (h_I (pM am σ μ) (am + j)) (h_R σ (am + j)))
      rw [pM_in hj]
      by_cases hj0 : j = 0
      · subst hj0
        rw [Nat.add_zero] at hx ⊢
        obtain ⟨r, hr, cell, x1, x2, x3, x4⟩ := hx
        cases hr
        rw [h0, xcid_o (by decide), xis_o (by decide), xsz_o (by decide)]
        obtain ⟨-, -, c0, y1, -, -, y4, -⟩ := w.obj h0 (by decide)
        obtain ⟨c9, z1, -, z3⟩ := hc _ _ y1
        cases x1.symm.trans z1
        refine ⟨cell, x1, x2, x3, z3.trans y4, fun k hk => ?_⟩
        have hk43 : k < 43 := hk
        refine (x4 k hk43).trans ?_
        show some (vp_V (mflds (g.2.2.1 + am) μ) k) = _
        rw [mflds_at _ _ hk43, mfv_val h w2 hk43]
      · obtain ⟨t1, t2⟩ := ha j hj hj0
        have h3 := mtab_obj j hj hj0
        rw [t1, xcid_a, xis_a, xsz_a, t2]
        revert hx h3
        generalize hm : mtab j = mt
        obtain ⟨ty, n⟩ := mt
        intro hx h3
        have h3 : ty < 3 := h3
        match ty, h3, hm, hx with
        | 0, _, hm, hx => rw [mcell_i hm] at hx; exact ⟨_, hx, rfl, rfl, arrV_size _ _ _, fun k hk => arrV_read _ _ hk⟩
        | 1, _, hm, hx => rw [mcell_l hm] at hx; exact ⟨_, hx, rfl, rfl, arrV_size _ _ _, fun k hk => arrV_read _ _ hk⟩
        | 2, _, hm, hx => rw [mcell_z hm] at hx; exact ⟨_, hx, rfl, rfl, arrV_size _ _ _, fun k hk => arrV_read _ _ hk⟩
    · have hl : live (h_tg σ (am + j)) := by
        by_cases hj0 : j = 0
        · subst hj0; rw [Nat.add_zero, h0]; exact Or.inl (by decide)
        · have := mtab_obj j hj hj0
          rw [(ha j hj hj0).1]; exact Or.inr ⟨by omega, by omega⟩
      obtain ⟨-, -, c9, y1, y2⟩ := w4 _ hl
      obtain ⟨c8, z1, z2, -⟩ := hc _ _ y1
      exact ⟨c8, z1, by rw [z2]; exact y2⟩
  have hso : ∀ p, ¬ (am ≤ p ∧ p < am + 25) → p < h_nx σ → H1[g.2.2.1 + p]? = H[g.2.2.1 + p]? := fun p hp hp2 => ho _ (by omega) (by omega)
  refine ⟨hz.trans w1, w2, w3, fun p hp => ?_, fun p hp => ?_, w6, ?_⟩
  · obtain ⟨q1, q2, q3⟩ := w4 p hp
    refine ⟨q1, ?_⟩
    by_cases hin : am ≤ p ∧ p < am + 25
    · have := key (p - am) (by omega)
      rwa [show am + (p - am) = p by omega] at this
    · refine ⟨?_, q3.kept (hso p hin q1)⟩
      unfold XCellA at q2 ⊢
      rw [pM_out hin]
      exact q2.kept (hso p hin q1)
  · obtain ⟨c, q1, q2⟩ := w5 p hp
    obtain ⟨c8, z1, -, z3⟩ := hc _ _ q1
    exact ⟨c8, z1, z3.trans q2⟩
  · have hB : ∀ i, ¬ (am ≤ CB + i ∧ CB + i < am + 25) := fun i z => by
      have h1 : am + 25 ≤ CAPN := Nat.le_trans hn w2
      have h2 := CAPN_CB
      omega
    refine ⟨fun p hp => ?_, fun p hp => ?_⟩
    · obtain ⟨i, hi, e, r1, r2⟩ := w7.1 p hp
      refine ⟨i, hi, e, r1, ?_⟩
      rw [e, pM_out (hB i), ← e]
      exact r2
    · obtain ⟨i, hi, e, r1, r2⟩ := w7.2 p hp
      refine ⟨i, hi, e, r1, fun j hj => ?_⟩
      have e' : p = CB + (100 + i) := by omega
      rw [e', pM_out (hB _), ← e']
      exact r2 j hj
theorem gm_K {g : XG} {am : Nat} {U : State} (K : XK g U) : mK (gm g am) U := by
  refine ⟨fun c q hq => ?_, fun k q hq => ?_⟩
  · have : c = 0 := by
      have := (List.getElem?_eq_some_iff.mp hq).1
      simp [mcl] at this
      omega
    subst this
    cases hq
    exact K.1.1 0 _ rfl
  · have : k < 3 := by
      have := (List.getElem?_eq_some_iff.mp hq).1
      simpa [tyL] using this
    match k, this with
    | 0, _ => cases hq; exact K.1.2 0 _ rfl
    | 1, _ => cases hq; exact K.1.2 1 _ rfl
    | 2, _ => cases hq; exact K.1.2 2 _ rfl
theorem met_frame {l : Launch} {y : MethodName} {ws : List Cond} {rm : Room} {Pc : Array Value → State → Prop} {Qc : Array Value → State → Outcome → State → Prop} {mc ms : Nat} {free : Addr → Prop} (h : Met l y ws rm Pc Qc mc ms free) : Met l y ws rm Pc (fun a st o t => Qc a st o t ∧ ∃ L, FrameEnd st o t L mc ms) mc ms free := by
  intro p e h1 h2 h3 s m args below h4 h5 h6 h7
  obtain ⟨n, o, a1, a2, a3, a4, L, a5, a6⟩ := h p e h1 h2 h3 s m args below h4 h5 h6 h7
  exact ⟨n, o, a1, a2, a3, ⟨a4, L, a5⟩, L, a5, a6⟩
section XM
variable {α P : Type} {X : Cx} {g : XG} {nL : Nat} {σ0 : Hp} {H0 : Heap} {Q : P} {cc : ByteArray} {own : String} {pc : Nat} {L L' : List (Nat × Value)} {st : List Value} {a b : Int} {r q : Option Nat} {t : Hp → P → Prop}
theorem gm_blind {l : Launch} {g : MG} {As : List Value} {μ : MS} : FrameBlind (va_Pc As (fun U => MWd g μ U.heap ∧ mK g U)) := fun a U gf mk q => ⟨q.1, q.2.1, va_K.moved (u := U) (U := U.calling gf mk a) (by exact Vm.Alike.refl _) q.2.2⟩
theorem gx_callM (C : GC X nL cc own) (E : XE X g σ0) {f : MM α} {rw9 : α → Option Value} {kf : α → Hp → P → Prop} {As rest : List Value} {k n i : Nat} {y : MethodName} {yc : ByteArray} {nL' : Nat} {ret : Option FieldType}
    (hd : decode cc pc = .ok (.invokevirtual i, 3)) (hM : ∀ am, MMet (cx_l X) (gm g am) y yc nL' ret k (.ref (gm g am).2.2 :: As) f rw9) (hT : GoodIn lw_all (wsV own i y.cls y (ws_ y yc nL' ret))) (hy : y.cls ≠ "java/lang/invoke/MethodHandle" ∧ y.cls ≠ "java/lang/invoke/VarHandle" ∧ (parseMethodDescriptor y.desc).map (fun d => d.parameters.length) = some n) (hcl : y.cls = RX5) {k0 : Nat} (hR : k0 ≤ (cx_R X).frames ∧ 40 * k0 ≤ (cx_R X).locals) (hk : k + 1 ≤ k0) (hn' : nL' ≤ 20) (hlen : As.length = n) {st0 : List Value} (hst : st0 = As.reverse ++ rv g r :: rest) (hcat : (rest.map fun v => v.category).sum ≤ 8)
    (kk : ∀ r, GJ X nL (xWo g σ0 (cx_s X).heap) Q (kf r) (pc + 3) L ((rw9 r).toList ++ rest)) : GJ X nL (xWo g σ0 (cx_s X).heap) Q (pbnd (xM r f) kf) pc L st0 := by
  subst hst
  intro σ ⟨am, e, hm, h⟩ H locs cs ss ls w l
  subst e
  have w0 := w
  obtain ⟨w1, hS, hc, hs, hn0, hu0, hz0⟩ := w
  have hreal : real g am = (gm g am).2.2 := real_lt (n := h_nx σ) (by have := hm.1; omega) w1.2.1
  show W _ _ _ _ _ _ _ _ _ _ _ _ _ _ _ (F0 _ pc ls (As.reverse ++ .ref (real g am) :: rest))
  rw [hreal]
  intro T hTT Xs
  have hrun := va_runV (p := cx_p X) (l := cx_l X) (e := cx_e X) (R := cx_R X) (s := cx_s X) (m := cx_m X) (args := cx_a X) (below := cx_b X) (meth := cx_y X) (c := cx_c X) (H := H) (locs := locs) (cells := cs) (slots := ss) (nL := nL) (g := F0 (cx_m X) pc ls (As.reverse ++ .ref (gm g am).2.2 :: rest)) (b := (gm g am).2.2) (As := As) (rest := rest) ⟨C.1, C.2.1, C.2.2.1, C.2.2.2.2.1, C.2.2.2.2.2⟩ (met_frame (hM am _ (vM am σ) h)) (cwV n C.2.2.2.2.2 hT rfl rfl rfl ⟨rfl, hy⟩ ⟨by show k + 1 ≤ _; omega, by show 8 + (nL' + 11) + 40 * k ≤ _; omega⟩)
    ⟨gm_blind (l := cx_l X), by rw [hcl, ← hreal]; exact x_recv E.1 w1 hm.2.1 rfl, fun U hU hW => ⟨rfl, by rw [hU]; exact M_of w1 hm, gm_K (E.1.warm hW)⟩⟩ rfl hlen l.1 rfl (lv_room hcat) hd (by
      have := xFit E w0
      omega)
  obtain ⟨v, s0, t, T', LL, h0, X', hL, e1, e2, ⟨⟨⟨r, μ, hv, hq, hw⟩, hF⟩, L9, -, -, hsb⟩, stp⟩ := hrun T hTT Xs
  cases hv
  obtain ⟨-, b1, b2, -, -, b5⟩ := hsb
  have b1 : s0.heap.size ≤ t.heap.size := b1
  have b2 : t.heap.size ≤ s0.heap.size + 0 := b2
  rw [h0] at b1 b2
  have hw' : XWd g (pM am σ μ) T'.heap := by
    rw [e1]
    refine M_back w1 hm hw (by omega) (fun q hq1 hq2 => ?_) (fun a c hac => ?_)
    · rw [hF.2 q (by rw [h0]; exact hq2) hq1, h0]
    · obtain ⟨c', d1, d2, d3, -⟩ := b5 a c (by rw [h0]; exact hac)
      exact ⟨c', d1, d2, d3⟩
  have hS' : va_S (xA g) (cx_s X).heap T'.heap (locs ++ LL) := ⟨Nat.le_trans hS.1 (by rw [e1]; exact b1), fun x h1 h2 => by
    have hx : x < H.size := Nat.lt_of_lt_of_le h1 hS.1
    have h2' : ¬ g.2.2.1 ≤ x := h2
    rw [e1, hF.2 x (by rw [h0]; exact hx) (fun z => h2' (Nat.le_trans (Nat.le_add_right _ _) z.1)), h0]
    exact hS.2.1 x h1 h2, fun x hx => by
    rcases List.mem_append.mp hx with h | h
    · exact hS.2.2 x h
    · exact Nat.le_trans (Nat.le_add_right _ _) (hL x h).1⟩
  obtain ⟨t2, a1, b1⟩ := kk r (pM am σ μ) hq T'.heap (locs ++ LL) cs ss ls ⟨hw', hS', hc, hs, hn0, hu0, hz0⟩ l T' rfl X'
  exact ⟨t2, stp t2 a1, b1⟩
theorem gx_callMI (C : GC X nL cc own) (E : XE X g σ0) {f : MM Int} {kf : Int → Hp → P → Prop} {As rest : List Value} {k n i : Nat} {y : MethodName} {yc : ByteArray} {nL' : Nat} {ret : Option FieldType}
    (hd : decode cc pc = .ok (.invokevirtual i, 3)) (hM : ∀ am, MMet (cx_l X) (gm g am) y yc nL' ret k (.ref (gm g am).2.2 :: As) f rvI) (hT : GoodIn lw_all (wsV own i y.cls y (ws_ y yc nL' ret))) (hy : y.cls ≠ "java/lang/invoke/MethodHandle" ∧ y.cls ≠ "java/lang/invoke/VarHandle" ∧ (parseMethodDescriptor y.desc).map (fun d => d.parameters.length) = some n) (hcl : y.cls = RX5) {k0 : Nat} (hR : k0 ≤ (cx_R X).frames ∧ 40 * k0 ≤ (cx_R X).locals) (hk : k + 1 ≤ k0) (hn' : nL' ≤ 20) (hlen : As.length = n) {st0 : List Value} (hst : st0 = As.reverse ++ rv g r :: rest) (hcat : (rest.map fun v => v.category).sum ≤ 8)
    (kk : ∀ r9, GJ X nL (xWo g σ0 (cx_s X).heap) Q (kf r9) (pc + 3) L (.int (iI r9) :: rest)) : GJ X nL (xWo g σ0 (cx_s X).heap) Q (pbnd (xM r f) kf) pc L st0 := gx_callM (kf := kf) C E hd hM hT hy hcl hR hk hn' hlen hst hcat kk
theorem gx_callMV (C : GC X nL cc own) (E : XE X g σ0) {f : MM Unit} {kf : Unit → Hp → P → Prop} {As rest : List Value} {k n i : Nat} {y : MethodName} {yc : ByteArray} {nL' : Nat} {ret : Option FieldType}
    (hd : decode cc pc = .ok (.invokevirtual i, 3)) (hM : ∀ am, MMet (cx_l X) (gm g am) y yc nL' ret k (.ref (gm g am).2.2 :: As) f rvV) (hT : GoodIn lw_all (wsV own i y.cls y (ws_ y yc nL' ret))) (hy : y.cls ≠ "java/lang/invoke/MethodHandle" ∧ y.cls ≠ "java/lang/invoke/VarHandle" ∧ (parseMethodDescriptor y.desc).map (fun d => d.parameters.length) = some n) (hcl : y.cls = RX5) {k0 : Nat} (hR : k0 ≤ (cx_R X).frames ∧ 40 * k0 ≤ (cx_R X).locals) (hk : k + 1 ≤ k0) (hn' : nL' ≤ 20) (hlen : As.length = n) {st0 : List Value} (hst : st0 = As.reverse ++ rv g r :: rest) (hcat : (rest.map fun v => v.category).sum ≤ 8)
    (kk : GJ X nL (xWo g σ0 (cx_s X).heap) Q (kf ()) (pc + 3) L rest) : GJ X nL (xWo g σ0 (cx_s X).heap) Q (pbnd (xM r f) kf) pc L st0 := gx_callM (kf := kf) C E hd hM hT hy hcl hR hk hn' hlen hst hcat (fun _ => kk)
theorem gx_callML (C : GC X nL cc own) (E : XE X g σ0) {f : MM Int} {kf : Int → Hp → P → Prop} {As rest : List Value} {k n i : Nat} {y : MethodName} {yc : ByteArray} {nL' : Nat} {ret : Option FieldType}
    (hd : decode cc pc = .ok (.invokevirtual i, 3)) (hM : ∀ am, MMet (cx_l X) (gm g am) y yc nL' ret k (.ref (gm g am).2.2 :: As) f rvL) (hT : GoodIn lw_all (wsV own i y.cls y (ws_ y yc nL' ret))) (hy : y.cls ≠ "java/lang/invoke/MethodHandle" ∧ y.cls ≠ "java/lang/invoke/VarHandle" ∧ (parseMethodDescriptor y.desc).map (fun d => d.parameters.length) = some n) (hcl : y.cls = RX5) {k0 : Nat} (hR : k0 ≤ (cx_R X).frames ∧ 40 * k0 ≤ (cx_R X).locals) (hk : k + 1 ≤ k0) (hn' : nL' ≤ 20) (hlen : As.length = n) {st0 : List Value} (hst : st0 = As.reverse ++ rv g r :: rest) (hcat : (rest.map fun v => v.category).sum ≤ 8)
    (kk : ∀ r9, GJ X nL (xWo g σ0 (cx_s X).heap) Q (kf r9) (pc + 3) L (.long (iL r9) :: rest)) : GJ X nL (xWo g σ0 (cx_s X).heap) Q (pbnd (xM r f) kf) pc L st0 := gx_callM (kf := kf) C E hd hM hT hy hcl hR hk hn' hlen hst hcat kk
end XM
