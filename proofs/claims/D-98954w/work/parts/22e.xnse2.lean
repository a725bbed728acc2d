/-! 'throw new NoSuchElementException()', on -/
theorem nse_good : ∀ w ∈ Cond.classLink RX1 10 nse :: Cond.initialized nse :: vy_at0 RX1 12 nse nseN, vy_ot w = true := by
  intro w hw
  have h : (Cond.classLink RX1 10 nse :: Cond.initialized nse :: vy_at0 RX1 12 nse nseN).all vy_ot = true := by decide +kernel
  exact List.all_eq_true.mp h w hw
theorem nse_fit : Bundle.fit nse = true ∧ ∀ n ∈ nseN, Bundle.fit n = true := by
  refine ⟨by decide +kernel, fun n hn => ?_⟩
  have h : nseN.all Bundle.fit = true := by decide +kernel
  exact List.all_eq_true.mp h n hn
section YNSE
variable {α P : Type} {X : Cx} {g : XG} {nL : Nat} {σ0 : Hp} {H0 : Heap} {cc : ByteArray} {own en : String} {pc : Nat} {L L' : List (Nat × Value)} {st : List Value} {a b : Int} {r q : Option Nat}
/-- the pure heap behind things that nobody looks into -/
theorem x_ext {σ : Hp} {H H1 : Heap} (w : XWd g σ H) (hn : H1.size = H.size ∨ (H1.size = H.size + 1 ∧ h_nx σ < CAPN)) (hk : ∀ q : Nat, q < H.size → H1[q]? = H[q]?) {n0 S0 : Nat} (hn0 : n0 ≤ h_nx σ) (hs : ((H1.toList.drop (g.2.2.1 + n0)).map (·.slots.size)).sum ≤ S0) (hS : sumTo (fun p => xsz (h_tg σ p) (h_ln σ p)) n0 + S0 ≤ h_us σ + 6) (hc : h_us σ + 6 ≤ CAPS) : ∃ σ', xext σ σ' ∧ XWd g σ' H1 := by
  obtain ⟨w1, w2, w3, w4, w5, w6, w7⟩ := w
  have hz : H1.size = g.2.2.1 + (H1.size - g.2.2.1) := by omega
  have hge : h_nx σ ≤ H1.size - g.2.2.1 := by omega
  have hle : H1.size - g.2.2.1 ≤ h_nx σ + 1 := by omega
  have hcap : H1.size - g.2.2.1 ≤ CAPN := by omega
  generalize hN : H1.size - g.2.2.1 = N at *
  let tg : Nat → Nat := fun p => if h_nx σ ≤ p ∧ p < N then 49 else h_tg σ p
  let ln : Nat → Nat := fun p => if h_nx σ ≤ p ∧ p < N then ((H1[g.2.2.1 + p]?).map (·.slots.size)).getD 0 else h_ln σ p
  let us : Nat := sumTo (fun p => xsz (tg p) (ln p)) N
  have tgo : ∀ p, ¬ (h_nx σ ≤ p ∧ p < N) → tg p = h_tg σ p := fun p h => if_neg h
  have lno : ∀ p, ¬ (h_nx σ ≤ p ∧ p < N) → ln p = h_ln σ p := fun p h => if_neg h
  have tgn : ∀ p, (h_nx σ ≤ p ∧ p < N) → tg p = 49 := fun p h => if_pos h
  have hcells : ∀ p, p < N → ∃ cell : Cell, H1[g.2.2.1 + p]? = some cell ∧ cell.slots.size = xsz (tg p) (ln p) := by
    intro p hp
    by_cases h : h_nx σ ≤ p ∧ p < N
    · obtain ⟨cell, hc⟩ : ∃ cell, H1[g.2.2.1 + p]? = some cell := ⟨_, Array.getElem?_eq_getElem (by omega)⟩
      refine ⟨cell, hc, ?_⟩
      rw [tgn p h]
      show _ = xsz 49 (if h_nx σ ≤ p ∧ p < N then _ else _)
      rw [if_pos h, hc]
      rfl
    · rw [tgo p h, lno p h]
      obtain ⟨cell, h1, h2⟩ := w5 p (by omega)
      exact ⟨cell, by rw [hk _ (by omega)]; exact h1, h2⟩
  have hW : ∀ u, u = us → u ≤ CAPS → XWd g (tg, ln, h_I σ, h_R σ, N, u) H1 := by
    intro u hu hu2
    refine ⟨hz, hcap, hu2, fun p hp => ?_, hcells, hu, ?_⟩
    · by_cases h : h_nx σ ≤ p ∧ p < N
      · exfalso
        have hp : live (tg p) := hp
        rw [tgn p h] at hp
        rcases hp with h | h <;> omega
      · have hp' : live (tg p) := hp
        rw [tgo p h] at hp'
        obtain ⟨q1, q2, q3⟩ := w4 p hp'
        refine ⟨Nat.lt_of_lt_of_le q1 hge, ?_, q3.kept (hk _ (by omega))⟩
        unfold XCellA at q2 ⊢
        show XAt H1 _ (xcid g (tg p)) (xsz (tg p) (ln p)) (xis g (tg p)) (xval g (tg p) _ _)
        rw [tgo p h, lno p h]
        exact q2.kept (hk _ (by omega))
    · refine ⟨fun p hp => ?_, fun p hp => ?_⟩
      · have hp' : tg p = 29 := hp
        by_cases h : h_nx σ ≤ p ∧ p < N
        · rw [tgn p h] at hp'; omega
        · rw [tgo p h] at hp'
          exact w7.1 p hp'
      · have hp' : tg p = 48 := hp
        by_cases h : h_nx σ ≤ p ∧ p < N
        · rw [tgn p h] at hp'; omega
        · rw [tgo p h] at hp'
          obtain ⟨i, hi, e, r1, r2⟩ := w7.2 p hp'
          exact ⟨i, hi, e, (lno p h).trans r1, r2⟩
  -- how many slots
  have key : ∀ j, j ≤ N → sumTo (fun p => xsz (tg p) (ln p)) (N - j) + ((H1.toList.drop (g.2.2.1 + (N - j))).map (·.slots.size)).sum = us := by
    intro j
    induction j with
    | zero =>
      intro _
      rw [Nat.sub_zero, List.drop_eq_nil_of_le (by rw [Array.length_toList]; omega)]
      rfl
    | succ j ih =>
      intro hj
      have h1 := ih (by omega)
      have e : N - j = N - (j + 1) + 1 := by omega
      obtain ⟨cell, c1, c2⟩ := hcells (N - (j + 1)) (by omega)
      have hl : g.2.2.1 + (N - (j + 1)) < H1.toList.length := by rw [Array.length_toList]; omega
      rw [List.drop_eq_getElem_cons hl, List.map_cons, List.sum_cons]
      have hc : H1.toList[g.2.2.1 + (N - (j + 1))] = cell := by
        have := List.getElem?_eq_getElem hl
        rw [Array.getElem?_toList, c1] at this
        exact (Option.some.inj this).symm
      rw [hc, c2]
      rw [e] at h1
      simp only [sumTo] at h1
      have e2 : g.2.2.1 + (N - (j + 1) + 1) = g.2.2.1 + (N - (j + 1)) + 1 := by omega
      rw [e2] at h1
      omega
  have k0 := key (N - n0) (by omega)
  rw [show N - (N - n0) = n0 by omega] at k0
  have hsum0 : sumTo (fun p => xsz (tg p) (ln p)) n0 = sumTo (fun p => xsz (h_tg σ p) (h_ln σ p)) n0 := sumTo_congr fun i hi => by rw [tgo i (by omega), lno i (by omega)]
  rw [hsum0] at k0
  have hus : us ≤ h_us σ + 6 := by omega
  have hus2 : h_us σ ≤ us := by
    rw [w6]
    have mono : ∀ d, sumTo (fun p => xsz (tg p) (ln p)) (h_nx σ) ≤ sumTo (fun p => xsz (tg p) (ln p)) (h_nx σ + d) := by
      intro d
      induction d with
      | zero => exact Nat.le_refl _
      | succ d ih => exact Nat.le_trans ih (Nat.le_add_right _ _)
    have m := mono (N - h_nx σ)
    rw [show h_nx σ + (N - h_nx σ) = N by omega] at m
    refine Nat.le_trans (Nat.le_of_eq ?_) m
    exact sumTo_congr fun i hi => by rw [tgo i (by omega), lno i (by omega)]
  refine ⟨(tg, ln, h_I σ, h_R σ, N, us), ⟨hge, hle, hus2, hus, fun p hp => ⟨tgo p (by rcases hp with h | h; omega; exact fun z => absurd z.2 (Nat.not_lt.mpr h)), lno p (by rcases hp with h | h; omega; exact fun z => absurd z.2 (Nat.not_lt.mpr h)), rfl, rfl⟩, fun p h1 h2 => tgn p ⟨h1, h2⟩⟩, hW us rfl (by omega)⟩
theorem gy_throw0 {Q : (α → Hp → Prop) × (Nat → Hp → Prop)} {rw9 : α → Option Value} {k0 : Nat} (C : GC X nL cc RX1) (E : XE X g σ0) (hl : (cx_l X).stackTraces = false) (hT : ∀ x ∈ (cx_c X).exceptionTable.toList, False) (hQ : YR X g σ0 nse Q rw9) (h1 : Cond.classLink RX1 10 nse ∈ lw_all) (h2 : Cond.initialized nse ∈ lw_all)
    (d0 : decode cc pc = .ok (.new 10, 3)) (d3 : decode cc (pc + 3) = .ok (.dup, 1)) (d4 : decode cc (pc + 4) = .ok (.invokespecial 12, 3)) (d7 : decode cc (pc + 7) = .ok (.athrow, 1)) (hR : k0 ≤ (cx_R X).frames ∧ 40 * k0 ≤ (cx_R X).locals) (hk : 10 ≤ k0) (hcat : (st.map fun v => v.category).sum ≤ 8) : GJ X nL (xWo g σ0 (cx_s X).heap) Q xthrow0 pc L st := by
  intro σ ⟨⟨hn, hu⟩, h⟩ H locs cs ss ls w l
  rw [hQ]
  have hC := E.2.2.2.2.1.2.2.2.2.2.2.2.2
  have hat : ∀ w ∈ vy_at0 RX1 12 nse nseN, w.before (cx_a X) (cx_s X) = true := fun w hw => by
    rcases nse_words w hw with z | ⟨z1, z2⟩
    · exact C.2.2.2.2.2 w z
    · exact va_Nw.use (isN_tab z2) (E.1.2.1 w z1 z2)
  obtain ⟨-, eSz, eR1, eR2, -, eUs⟩ := E
  have hcs := w.2.2.1
  have hss := w.2.2.2.1
  have hn0q := w.2.2.2.2.1
  have hu0q := w.2.2.2.2.2.1
  have base := vy_throw0 (p := cx_p X) (l := cx_l X) (e := cx_e X) (R := cx_R X) (s := cx_s X) (m := cx_m X) (args := cx_a X) (below := cx_b X) (meth := cx_y X) (c := cx_c X) (H := H) (locs := locs) (cells := cs) (slots := ss) (Qc := fun _ _ _ _ => False) (XC := fun E q _ t => E = nse ∧ q = H.size ∧ H.size ≤ t.heap.size ∧ ∀ q : Nat, q < H.size → t.heap[q]? = H[q]?) (free := xA g) (mc := cs + 1) (ms := ss + 6) (rest := st) (ls := ls) (pc := pc) C.1 C.2.1 hl (own := RX1) (cls := nse) (names := nseN) (ik := 10) (ic := 12) C.2.2.2.2.1 nse_fit.1 nse_fit.2 (C.2.2.2.2.2 _ h1) (C.2.2.2.2.2 _ h2) hat nse_good hC.1 hC.2 w.2.1 (l.1.trans C.2.2.1.symm) d0 d3 d4 d7 (fun x hx => (hT x hx).elim) (by show 2 + 3 < _; omega) (by show _ + (13 * (2 + 1) + 42) ≤ _; omega) (by rw [eR1]; omega) (by rw [eR2]; omega) C.2.2.2.1
    (fun t _ z1 z2 => ⟨rfl, rfl, z1, z2⟩) w.2.1.2.2 (Nat.le_refl _) (Nat.le_refl _)
  intro T hTT X9
  obtain ⟨t, a1, o, b1, b2, b3⟩ := base T hTT X9
  refine ⟨t, a1, o, b1, b2, ?_⟩
  rcases b3 with ⟨b3, -⟩ | ⟨q, rfl, E9, ce, L9, ⟨rfl, hq, hz, hx⟩, hce, hcv, hcl, hW, hsm, hfr⟩
  · exact b3.elim
  · obtain ⟨-, -, m1, -, m2, -⟩ := id hsm
    obtain ⟨w1, hS, hc, hs, hn0, hu0, hz0⟩ := w
    have hsz := w1.1
    have m1 : t.heap.size ≤ (cx_s X).heap.size + (cs + 1) := m1
    have m2 : ((t.heap.toList.drop (cx_s X).heap.size).map (·.slots.size)).sum ≤ ss + 6 := m2
    rw [eSz] at m1 m2
    have hsum : sumTo (fun p => xsz (h_tg σ p) (h_ln σ p)) (h_nx σ0) = h_us σ0 := by
      rw [eUs]
      exact sumTo_congr fun i hi => by rw [(hz0 i hi).1, (hz0 i hi).2]
    obtain ⟨σ', hxt, hW'⟩ := x_ext w1 (by omega) hx hn0 m2 (by rw [hsum]; omega) hu
    refine Or.inr ⟨q, rfl, nse, ce, L9, ⟨rfl, ⟨h_nx σ, σ', ?_, h _ _ hxt, hW', Nat.le_trans hu0 hxt.2.2.1, fun x hx9 => ?_⟩, Nat.le_trans hS.1 hz, fun z hz1 hz2 => (hx z (Nat.lt_of_lt_of_le hz1 hS.1)).trans (hS.2.1 z hz1 hz2)⟩, hce, hcv, hcl, hW, hsm.mono (by omega) (by omega), hfr⟩
    · rw [hq, hsz, real_lt (n := h_nx σ + 1) (Nat.lt_succ_self _) hn]
    · obtain ⟨y1, y2, -⟩ := hxt.2.2.2.2.1 x (Or.inl (by omega))
      exact ⟨y1.trans (hz0 x hx9).1, y2.trans (hz0 x hx9).2⟩
end YNSE
