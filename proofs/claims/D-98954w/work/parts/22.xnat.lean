/-! THE COMPONENT's ROWS, on: System.arraycopy, clone, getClass, new int[n][k]. -/
section XNAT
variable {α P : Type} {X : Cx} {g : XG} {nL : Nat} {σ0 : Hp} {H0 : Heap} {Q : P} {cc : ByteArray} {own : String} {pc : Nat} {L L' : List (Nat × Value)} {st : List Value} {a b : Int} {r q : Option Nat} {t : Hp → P → Prop}
theorem gx_ldcM (C : GC X nL cc own) (E : XE X g σ0) {i : Nat} (hd : decode cc pc = .ok (.ldc i, 2)) (hl : Cond.classLink own i "[Ljava/lang/Object;" ∈ lw_all) (k9 : GJ X nL (xWo g σ0 H0) Q t (pc + 2) L (rv g (some (CB + 201)) :: st)) : GJ X nL (xWo g σ0 H0) Q t pc L st := by
  intro σ q H locs cs ss ls w l
  refine va_ldcM C.1 C.2.1 C.2.2.2.2.1 (C.2.2.2.2.2 _ hl) E.2.2.2.2.1.2.2.2.2.2.2.2.1 hd ?_
  rw [← real_CB (g := g)]
  exact k9 σ q H locs cs ss ls w l
theorem gx_getC (C : GC X nL cc own) (E : XE X g σ0) {i k0 : Nat} (hd : decode cc pc = .ok (.invokevirtual i, 3)) (hl : Cond.methodLink own i ⟨"java/lang/Object", "getClass", "()Ljava/lang/Class;"⟩ ∈ lw_all) (hR : k0 ≤ (cx_R X).frames ∧ 40 * k0 ≤ (cx_R X).locals) (hk : 1 ≤ k0) (hcat : (st.map fun v => v.category).sum ≤ 8)
    (k9 : GJ X nL (xWo g σ0 H0) Q t (pc + 3) L (rv g (some (CB + 201)) :: st)) : GJ X nL (xWo g σ0 H0) Q (pbnd (xrecv r 44) (fun _ => t)) pc L (rv g r :: st) := by
  intro σ ⟨p, e, ht, q⟩ H locs cs ss ls w l
  subst e
  obtain ⟨e, -, cell, h1, h2, h3, h4, h5⟩ := w.1.arr (t := 4) ht (by decide)
  have hnm : (cx_s X).vm.findClass "[Ljava/lang/Object;" = some (g.2.1 4) := va_nmO (E.1.1.2 4 _ rfl).2 (by decide +kernel)
  refine va_getC (C := "[Ljava/lang/Object;") (mi := g.2.2.2 201) C.1 C.2.1 (C.2.2.1.trans l.1.symm) C.2.2.2.2.1 (C.2.2.2.2.2 _ hl) (va_Nw.use rfl (E.1.2.1 _ q2446 rfl)) (C.2.2.2.2.2 _ q2445) (C.2.2.2.2.2 _ q980) (C.2.2.2.2.2 _ q1012) E.2.2.2.2.1.2.2.2.2.2.2.2.1 ⟨cell, by rw [e]; exact h1, by rw [h3]; rfl, by rw [h2]; exact hnm⟩ (by omega) (by omega) hd ?_
  rw [← real_CB (g := g)]
  exact k9 σ q H locs cs ss ls w l
/-- a cell with a stretch stored -/
theorem XAt.run {H1 : Heap} {a : Nat} {c : ClassId} {n d m : Nat} {V V' : Nat → Value} {cell : Cell} {xs : List Value} (h1 : cell.cls = c) (h2 : cell.vm = .none) (h3 : cell.slots.size = n) (h4 : ∀ k, k < n → cell.slots[k]? = some (V k)) (hx : xs.length = m)
    (e : H1[a]? = some (cell.storeRun d xs)) (hd : d + m ≤ n) (hv : ∀ j, j < m → V' (d + j) = xs.getD j .null) (ho : ∀ j, j < n → ¬ (d ≤ j ∧ j < d + m) → V' j = V j) : XAt H1 a c n id V' := by
  have key : ∀ (xs : List Value) (i : Nat) (cell : Cell), cell.cls = c → cell.vm = .none → cell.slots.size = n → (cell.storePairs d (xs.zipIdx i)).cls = c ∧ (cell.storePairs d (xs.zipIdx i)).vm = .none ∧ (cell.storePairs d (xs.zipIdx i)).slots.size = n ∧
      (∀ k, k < n → (cell.storePairs d (xs.zipIdx i)).slots[k]? = if d + i ≤ k ∧ k < d + i + xs.length then some (xs.getD (k - (d + i)) .null) else cell.slots[k]?) := by
    intro xs
    induction xs with
    | nil => intro i cell a1 a2 a3; exact ⟨a1, a2, a3, fun k hk => by rw [if_neg (by simp only [List.length_nil]; omega)]; rfl⟩
    | cons x xs ih =>
      intro i cell a1 a2 a3
      obtain ⟨b1, b2, b3, b4⟩ := ih (i + 1) (cell.setSlot (d + i) x) a1 a2 ((k2_slotsz _ _ _).trans a3)
      rw [List.zipIdx_cons]
      refine ⟨b1, b2, b3, fun k hk => ?_⟩
      show ((cell.setSlot (d + i) x).storePairs d (xs.zipIdx (i + 1))).slots[k]? = _
      rw [b4 k hk]
      by_cases e : k = d + i
      · subst e
        rw [if_neg (by omega), if_pos (by simp only [List.length_cons]; omega)]
        show (cell.slots.setIfInBounds _ _)[_]? = _
        rw [Array.getElem?_setIfInBounds_self]
        simp [a3, hk]
      · by_cases h : d + (i + 1) ≤ k ∧ k < d + (i + 1) + xs.length
        · rw [if_pos h, if_pos (by simp only [List.length_cons]; omega)]
          have e : k - (d + i) = (k - (d + (i + 1))) + 1 := by omega
          rw [e, List.getD_cons_succ]
        · rw [if_neg h, if_neg (by simp only [List.length_cons]; omega)]
          show (cell.slots.setIfInBounds _ _)[_]? = _
          rw [Array.getElem?_setIfInBounds_ne (by omega)]
  obtain ⟨b1, b2, b3, b4⟩ := key xs 0 cell h1 h2 h3
  refine ⟨_, e, b1, b2, b3, fun k hk => ?_⟩
  show (cell.storePairs d (xs.zipIdx 0)).slots[k]? = _
  rw [b4 k hk]
  by_cases h : d + 0 ≤ k ∧ k < d + 0 + xs.length
  · rw [if_pos h]
    have := hv (k - d) (by omega)
    rw [show d + (k - d) = k by omega] at this
    rw [this]
    rfl
  · rw [if_neg h, h4 k hk, ho k hk (by omega)]
/-- a cell replaced: the new world -/
theorem XWd.repl {g : XG} {σ σ' : Hp} {H H1 : Heap} {p : Nat} {cell cell' : Cell} (w : XWd g σ H) (hp : p < h_nx σ) (htg : h_tg σ' = h_tg σ) (hln : h_ln σ' = h_ln σ) (hnx : h_nx σ' = h_nx σ) (hus : h_us σ' = h_us σ)
    (hI : ∀ q, q ≠ p → h_I σ' q = h_I σ q) (hR : ∀ q, q ≠ p → h_R σ' q = h_R σ q) (hcell : H[g.2.2.1 + p]? = some cell) (hsz : cell'.slots.size = cell.slots.size) (e1 : H1[g.2.2.1 + p]? = some cell') (e2 : H1.size = H.size) (e3 : ∀ q, q ≠ g.2.2.1 + p → H1[q]? = H[q]?)
    (hpl : Pl cell → Pl cell') (hx : live (h_tg σ p) → XCellA g σ' H1 p) : XWd g σ' H1 := by
  obtain ⟨hs, hn, hu, hc, hz, hsum, hCI⟩ := w
  have ne : ∀ q, q ≠ p → H1[g.2.2.1 + q]? = H[g.2.2.1 + q]? := fun q hq => e3 _ (by omega)
  refine ⟨by rw [e2, hs, hnx], by rw [hnx]; exact hn, by rw [hus]; exact hu, fun q hq => ?_, fun q hq => ?_, by rw [hus, hnx, htg, hln]; exact hsum, ?_⟩
  · rw [htg] at hq
    by_cases hqp : q = p
    · subst hqp
      obtain ⟨-, -, c9, y1, y2⟩ := hc q hq
      cases hcell.symm.trans y1
      exact ⟨by rw [hnx]; exact hp, hx hq, _, e1, hpl y2⟩
    · obtain ⟨h1, h2, h3⟩ := hc q hq
      refine ⟨by rw [hnx]; exact h1, ?_, h3.kept (ne q hqp)⟩
      unfold XCellA at h2 ⊢
      rw [htg, hln, hI q hqp, hR q hqp]
      exact h2.kept (ne q hqp)
  · rw [hnx] at hq
    rw [htg, hln]
    obtain ⟨c, h1, h2⟩ := hz q hq
    by_cases hqp : q = p
    · subst hqp
      cases hcell.symm.trans h1
      exact ⟨_, e1, hsz.trans h2⟩
    · exact ⟨c, by rw [ne q hqp]; exact h1, h2⟩
  · have hpB : p < CB := Nat.lt_of_lt_of_le hp (Nat.le_trans hn (Nat.le_of_lt CAPN_CB))
    refine ⟨fun q hq => ?_, fun q hq => ?_⟩
    · rw [htg] at hq
      obtain ⟨i, hi, e, r⟩ := hCI.1 q hq
      have : q ≠ p := by omega
      exact ⟨i, hi, e, by rw [hR q this, hI q this]; exact r⟩
    · rw [htg] at hq
      obtain ⟨i, hi, e, r⟩ := hCI.2 q hq
      have : q ≠ p := by omega
      exact ⟨i, hi, e, by rw [hln, hI q this]; exact r⟩
theorem storeRun_sz (cell : Cell) (d : Nat) (xs : List Value) : (cell.storeRun d xs).slots.size = cell.slots.size := by
  have key : ∀ (xs : List (Value × Nat)) (cell : Cell), (cell.storePairs d xs).slots.size = cell.slots.size := by
    intro xs
    induction xs with
    | nil => intro cell; rfl
    | cons x xs ih => intro cell; exact (ih _).trans (k2_slotsz _ _ _)
  exact key _ _
theorem storeRun_pl (cell : Cell) (d : Nat) (xs : List Value) (h : Pl cell) : Pl (cell.storeRun d xs) := by
  have key : ∀ (xs : List (Value × Nat)) (cell : Cell), Pl cell → Pl (cell.storePairs d xs) := by
    intro xs
    induction xs with
    | nil => intro cell h; exact h
    | cons x xs ih => intro cell h; exact ih _ h
  exact key _ _ h
theorem neg32 {z : Int} (h : 0 ≤ w32 z) : ¬ iI z < 0 := fun e => by have := (iI_lt0 z).mp e; omega
/-- the machine's part of System.arraycopy -/
theorem xj_copy (C : GC X nL cc own) (E : XE X g σ0) {i k0 t0 p p' : Nat} {ty : FieldType} {s d n : Int} {σ σ' : Hp} {H : Heap} {locs : List Loc} {cs ss : Nat} {ls : Array Slot} (hd : decode cc pc = .ok (.invokestatic i, 3)) (hl : Cond.methodLink own i arraycopyName ∈ lw_all) (hR : k0 ≤ (cx_R X).frames ∧ 40 * k0 ≤ (cx_R X).locals) (hk : 1 ≤ k0) (hcat : (st.map fun v => v.category).sum ≤ 8)
    (h8 : t0 < 8) (hty : (xtyL g)[t0]? = some (g.2.1 t0, ty)) (ht : h_tg σ p = 40 + t0) (ht' : h_tg σ p' = 40 + t0) (hin : 0 ≤ w32 s ∧ 0 ≤ w32 d ∧ 0 ≤ w32 n ∧ w32 s + w32 n ≤ h_ln σ p ∧ w32 d + w32 n ≤ h_ln σ p')
    (hfit : ∀ (cd : Cell) (kd : Class) (comp : ClassId), (cx_s X).vm.classes[g.2.1 t0]? = some kd → kd.kind = .array comp ty → ∀ T : State, T.heap = H → ∀ vm', (cx_s X).vm.Alike vm' → ∀ j, j < (w32 n).toNat → fits ty (xval g (40 + t0) (h_I σ p) (h_R σ p) ((w32 s).toNat + j)) = true ∧ (T.setVm vm').takes comp (xval g (40 + t0) (h_I σ p) (h_R σ p) ((w32 s).toNat + j)))
    (htg : h_tg σ' = h_tg σ) (hln : h_ln σ' = h_ln σ) (hnx : h_nx σ' = h_nx σ) (hus : h_us σ' = h_us σ) (hI : ∀ q, q ≠ p' → h_I σ' q = h_I σ q) (hRR : ∀ q, q ≠ p' → h_R σ' q = h_R σ q)
    (hv : ∀ j, j < (w32 n).toNat → xval g (40 + t0) (h_I σ' p') (h_R σ' p') ((w32 d).toNat + j) = xval g (40 + t0) (h_I σ p) (h_R σ p) ((w32 s).toNat + j)) (ho : ∀ j, ¬ ((w32 d).toNat ≤ j ∧ j < (w32 d).toNat + (w32 n).toNat) → xval g (40 + t0) (h_I σ' p') (h_R σ' p') j = xval g (40 + t0) (h_I σ p') (h_R σ p') j)
    (w : xWo g σ0 H0 σ H locs cs ss) (l : lv_has ls nL L) (kk : GV X nL (xWo g σ0 H0) σ' (pc + 3) L st) :
    W (cx_p X) (cx_l X) (cx_e X) (cx_R X) (cx_s X) (cx_m X) (cx_a X) (cx_b X) (cx_y X) (cx_c X) H locs cs ss (cx_q X) (F0 (cx_m X) pc ls (.int (iI n) :: .int (iI d) :: rv g (some p') :: .int (iI s) :: rv g (some p) :: st)) := by
  obtain ⟨w, hS, hc, hs, hn0, hu0, hz0⟩ := w
  obtain ⟨e, hp, cell, h1, h2, h3, h4, h5⟩ := w.arr ht h8
  obtain ⟨e', hp', cell', g1, g2, g3, g4, g5⟩ := w.arr ht' h8
  obtain ⟨-, kA, hkA, comp, hkind⟩ := (E.1.1.2 t0 _ hty).1 0 (fun _ => .null)
  show W _ _ _ _ _ _ _ _ _ _ _ _ _ _ _ (F0 _ pc ls (.int (iI n) :: .int (iI d) :: .ref (real g p') :: .int (iI s) :: .ref (real g p) :: st))
  rw [e, e']
  intro T hT X9
  obtain ⟨vm', X', step⟩ := X9.arraycopy C.1 C.2.2.2.2.1 (C.2.2.2.2.2 _ hl) (C.2.2.2.2.2 _ q760) (C.2.2.2.2.2 _ q759) (C.2.2.2.2.2 _ q148) (src := g.2.2.1 + p) (dst := g.2.2.1 + p') (cs := cell) (cd := cell') (srcPos := iI s) (destPos := iI d) (n := iI n) (by rw [hT]; exact h1) (by rw [hT]; exact g1)
    (fun _ z => by rw [h3] at z; cases z) (fun _ z => by rw [g3] at z; cases z) (fun z => by rw [h3] at z; cases z) (fun z => by rw [g3] at z; cases z) (by rw [h2]; exact hkA) (by rw [g2]; exact hkA) hkind hkind (by cases refKind ty <;> simp) (neg32 hin.1) (neg32 hin.2.1) (neg32 hin.2.2.1)
    (by rw [h4]; show ¬ w32 s + w32 n > _; omega) (by rw [g4]; show ¬ w32 d + w32 n > _; omega)
    (fun vm₁ hal j hj => by
      have hj' : j < (w32 n).toNat := hj
      have e9 : cell.slots.getD ((iI s).toNatClampNeg + j) .null = xval g (40 + t0) (h_I σ p) (h_R σ p) ((w32 s).toNat + j) := by
        rw [Array.getD_eq_getD_getElem?, iI_clamp]
        have := h5 ((w32 s).toNat + j) (by omega)
        simp only [id] at this
        rw [this]
        rfl
      rw [e9]
      exact hfit cell' kA comp hkA hkind T hT vm₁ hal j hj')
    (g := F0 (cx_m X) pc ls (.int (iI n) :: .int (iI d) :: .ref (g.2.2.1 + p') :: .int (iI s) :: .ref (g.2.2.1 + p) :: st)) rfl (l.1.trans C.2.2.1.symm) (rest := st) rfl (by rw [C.2.1]; exact hd) (by omega) (by
      have hw : nativeFrameWords "java/lang/System" "arraycopy" 5 + 11 ≤ 24 := by decide
      show 2 * 0 + _ + _ ≤ _
      omega)
  have hlt : g.2.2.1 + p' < H.size := (Array.getElem?_eq_some_iff.mp g1).1
  generalize hc9 : copied cell cell' (iI s) (iI d) (iI n) = cell9 at X' step
  have hheap : ((T.setVm vm').setCell (g.2.2.1 + p') cell9).heap = H.setIfInBounds (g.2.2.1 + p') cell9 := by rw [← hT]; rfl
  have e1 : (H.setIfInBounds (g.2.2.1 + p') cell9)[g.2.2.1 + p']? = some cell9 := by simp [Array.getElem?_setIfInBounds, hlt]
  have e3 : ∀ q : Nat, q ≠ g.2.2.1 + p' → (H.setIfInBounds (g.2.2.1 + p') cell9)[q]? = H[q]? := fun q hq => by simp [Array.getElem?_setIfInBounds, Ne.symm hq]
  have hsz9 : cell9.slots.size = cell'.slots.size := by rw [← hc9]; exact storeRun_sz _ _ _
  have hst9 : (cell.stretch (iI s).toNatClampNeg (iI n).toNatClampNeg).length = (w32 n).toNat := by simp [Cell.stretch, iI_clamp]
  have hw' : XWd g σ' (H.setIfInBounds (g.2.2.1 + p') cell9) := w.repl hp' htg hln hnx hus hI hRR g1 hsz9 e1 (by simp) e3 (fun z => by rw [← hc9]; exact storeRun_pl _ _ _ z) (fun _ => by
    unfold XCellA
    rw [htg, hln, ht', xcid_a, xis_a, xsz_a]
    refine XAt.run (cell := cell') (d := (w32 d).toNat) (m := (w32 n).toNat) g2 g3 g4 (fun k hk => g5 k hk) hst9 (by rw [e1, ← hc9]; rfl) (by omega) (fun j hj => ?_) (fun j _ hj => ho j hj)
    rw [hv j hj]
    have e9 : (cell.stretch (iI s).toNatClampNeg (iI n).toNatClampNeg).getD j .null = cell.slots.getD ((iI s).toNatClampNeg + j) .null := by
      unfold Cell.stretch
      rw [List.getD_eq_getElem?_getD, List.getElem?_map, List.getElem?_range (by rw [iI_clamp]; exact hj)]
      rfl
    rw [e9, Array.getD_eq_getD_getElem?, iI_clamp]
    have := h5 ((w32 s).toNat + j) (by omega)
    simp only [id] at this
    rw [this]
    rfl)
  obtain ⟨t9, a1, b1⟩ := kk (H.setIfInBounds (g.2.2.1 + p') cell9) _ cs ss ls ⟨hw', ⟨by simp; exact hS.1, fun q z1 z2 => by
      rw [e3 q (fun z => z2 (by rw [z]; exact Nat.le_add_right _ _))]
      exact hS.2.1 q z1 z2, fun z hz => by
      rcases List.mem_append.mp hz with h | h
      · exact hS.2.2 z h
      · obtain ⟨y, -, hy⟩ := List.mem_map.mp h
        rw [← hy]
        exact Nat.le_add_right _ _⟩, by rw [hnx]; exact hc, by rw [hus]; exact hs, by rw [hnx]; exact hn0, by rw [hus]; exact hu0, by rw [htg, hln]; exact hz0⟩ l _ hheap X'
  exact ⟨t9, step t9 a1, b1⟩
theorem gx_copyB (C : GC X nL cc own) (E : XE X g σ0) {i k0 : Nat} {s d n : Int} (hd : decode cc pc = .ok (.invokestatic i, 3)) (hl : Cond.methodLink own i arraycopyName ∈ lw_all) (hR : k0 ≤ (cx_R X).frames ∧ 40 * k0 ≤ (cx_R X).locals) (hk : 1 ≤ k0) (hcat : (st.map fun v => v.category).sum ≤ 8)
    (k9 : GJ X nL (xWo g σ0 H0) Q t (pc + 3) L st) : GJ X nL (xWo g σ0 H0) Q (pbnd (xcopyI 43 r s q d n) (fun _ => t)) pc L (.int (iI n) :: .int (iI d) :: rv g q :: .int (iI s) :: rv g r :: st) := by
  intro σ ⟨p, p', e, e', ht, ht', hin, hfit, h⟩ H locs cs ss ls w l
  subst e e'
  refine xj_copy C E (σ' := cpyI σ p (w32 s).toNat p' (w32 d).toNat (w32 n).toNat) hd hl hR hk hcat (t0 := 3) (by decide) rfl ht ht' hin (fun _ kd comp _ _ T hT vm' _ j hj => ?_) rfl rfl rfl rfl (fun q hq => funext fun b => if_neg (fun z => hq z.1)) (fun _ _ => rfl) (fun j hj => ?_) (fun j hj => ?_) w l (k9 _ h)
  · exact ⟨(inty_b (hfit j hj)).2, trivial⟩
  · show Value.int (iI (if p' = p' ∧ (w32 d).toNat ≤ (w32 d).toNat + j ∧ (w32 d).toNat + j < (w32 d).toNat + (w32 n).toNat then _ else _)) = Value.int (iI _)
    rw [if_pos ⟨rfl, by omega, by omega⟩, Nat.add_sub_cancel_left]
  · show Value.int (iI (if p' = p' ∧ (w32 d).toNat ≤ j ∧ j < (w32 d).toNat + (w32 n).toNat then _ else _)) = Value.int (iI _)
    rw [if_neg (fun z => hj z.2)]
/-- classes whose objects go into an Object[] -/
theorem xobj_cast : ∀ t1 r1, t1 < 29 → xcl[t1]? = some r1 → Cond.castable r1.1 "java/lang/Object" ∈ lw_tbl := by
  intro t1 r1 h hr
  have key : ∀ t1, t1 < 29 → ∃ w ∈ lw_tbl, w = Cond.castable ((xcl.getD t1 ("", TX0e, 0)).1) "java/lang/Object" := by
    intro t1 h
    match t1, h with
    | 0, _ => exact ⟨_, q2419, rfl⟩
    | 1, _ => exact ⟨_, q2415, rfl⟩
    | 2, _ => exact ⟨_, q2416, rfl⟩
    | 3, _ => exact ⟨_, q2417, rfl⟩
    | 4, _ => exact ⟨_, q2413, rfl⟩
    | 5, _ => exact ⟨_, q2420, rfl⟩
    | 6, _ => exact ⟨_, q2423, rfl⟩
    | 7, _ => exact ⟨_, q2424, rfl⟩
    | 8, _ => exact ⟨_, q2425, rfl⟩
    | 9, _ => exact ⟨_, q2426, rfl⟩
    | 10, _ => exact ⟨_, q2427, rfl⟩
    | 11, _ => exact ⟨_, q2428, rfl⟩
    | 12, _ => exact ⟨_, q2429, rfl⟩
    | 13, _ => exact ⟨_, q2430, rfl⟩
    | 14, _ => exact ⟨_, q2431, rfl⟩
    | 15, _ => exact ⟨_, q2432, rfl⟩
    | 16, _ => exact ⟨_, q2433, rfl⟩
    | 17, _ => exact ⟨_, q2434, rfl⟩
    | 18, _ => exact ⟨_, q2435, rfl⟩
    | 19, _ => exact ⟨_, q2436, rfl⟩
    | 20, _ => exact ⟨_, q2437, rfl⟩
    | 21, _ => exact ⟨_, q2438, rfl⟩
    | 22, _ => exact ⟨_, q2439, rfl⟩
    | 23, _ => exact ⟨_, q2441, rfl⟩
    | 24, _ => exact ⟨_, q2442, rfl⟩
    | 25, _ => exact ⟨_, q2414, rfl⟩
    | 26, _ => exact ⟨_, q2418, rfl⟩
    | 27, _ => exact ⟨_, q2421, rfl⟩
    | 28, _ => exact ⟨_, q2422, rfl⟩
    | _ + 29, h => omega
  obtain ⟨w, hw, e⟩ := key t1 h
  have e2 : xcl.getD t1 ("", TX0e, 0) = r1 := by rw [List.getD_eq_getElem?_getD, hr]; rfl
  rw [e2] at e
  rw [← e]
  exact hw
theorem gx_copyR (C : GC X nL cc own) (E : XE X g σ0) {i k0 : Nat} {s d n : Int} (hd : decode cc pc = .ok (.invokestatic i, 3)) (hl : Cond.methodLink own i arraycopyName ∈ lw_all) (hR : k0 ≤ (cx_R X).frames ∧ 40 * k0 ≤ (cx_R X).locals) (hk : 1 ≤ k0) (hcat : (st.map fun v => v.category).sum ≤ 8)
    (k9 : GJ X nL (xWo g σ0 H0) Q t (pc + 3) L st) : GJ X nL (xWo g σ0 H0) Q (pbnd (xcopyR 44 r s q d n) (fun _ => t)) pc L (.int (iI n) :: .int (iI d) :: rv g q :: .int (iI s) :: rv g r :: st) := by
  intro σ ⟨p, p', e, e', ht, ht', hin, hel, h⟩ H locs cs ss ls w l
  subst e e'
  refine xj_copy C E (σ' := cpyR σ p (w32 s).toNat p' (w32 d).toNat (w32 n).toNat) hd hl hR hk hcat (t0 := 4) (by decide) rfl ht ht' hin (fun _ kd comp hkd hkk T hT vm' hal j hj => ?_) rfl rfl rfl rfl (fun _ _ => rfl) (fun q hq => funext fun b => if_neg (fun z => hq z.1)) (fun j hj => ?_) (fun j hj => ?_) w l (k9 _ h)
  · show fits (.object "java/lang/Object") (rv g (h_R σ p ((w32 s).toNat + j))) = true ∧ (T.setVm vm').takes comp (rv g (h_R σ p ((w32 s).toNat + j)))
    cases hy : h_R σ p ((w32 s).toNat + j) with
    | none => exact ⟨rfl, trivial⟩
    | some y =>
      have h29 := hel j hj y hy
      obtain ⟨r1, hr1⟩ : ∃ r1, xcl[h_tg σ y]? = some r1 := ⟨_, List.getElem?_eq_getElem h29⟩
      obtain ⟨cellV, g1, g2, g3⟩ := x_recv E.1 w.1 rfl hr1
      obtain ⟨kA, cp, r1', r2, r3, -⟩ := (E.1.1.2 4 _ rfl).2
      cases hkd.symm.trans r1'
      cases hkk.symm.trans r2
      obtain ⟨kC, hkC, -⟩ := Vm.findClass_spec g3
      obtain ⟨kE, hkE, -⟩ := Vm.findClass_spec r3
      obtain ⟨kC', hkC', -⟩ := hal.2.2 _ _ hkC
      obtain ⟨kE', hkE', -⟩ := hal.2.2 _ _ hkE
      obtain ⟨c3, c4, hc3, hc4, has⟩ := Cond.castable_spec (va_Nw.use (A := cx_a X) rfl (E.1.2.1 _ (xobj_cast _ _ h29 hr1) rfl))
      cases Option.some.inj (hc3.symm.trans g3)
      cases Option.some.inj (hc4.symm.trans r3)
      refine ⟨rfl, cellV, (show T.heap[real g y]? = some cellV by rw [hT]; exact g1), (fun q h => by rw [h] at g2; cases g2), ⟨kC', hkC'⟩, ?_, ?_⟩
      · exact ⟨kE', hkE'⟩
      · show vm'.assignable _ _ = true
        rw [hal.assignable]
        exact has
  · rw [xval_ar (by decide), xval_ar (by decide)]
    show rv g (if p' = p' ∧ (w32 d).toNat ≤ (w32 d).toNat + j ∧ (w32 d).toNat + j < (w32 d).toNat + (w32 n).toNat then _ else _) = _
    rw [if_pos ⟨rfl, by omega, by omega⟩, Nat.add_sub_cancel_left]
  · rw [xval_ar (by decide), xval_ar (by decide)]
    show rv g (if p' = p' ∧ (w32 d).toNat ≤ j ∧ j < (w32 d).toNat + (w32 n).toNat then _ else _) = _
    rw [if_neg (fun z => hj z.2)]
/-- a new cell that is another's twin: the new world -/
theorem XWd.dup {g : XG} {σ : Hp} {H H1 : Heap} {p t0 : Nat} {cell : Cell} (w : XWd g σ H) (ht : h_tg σ p = 40 + t0) (h8 : t0 < 8) (hn : h_nx σ < CAPN) (hu : h_us σ + h_ln σ p ≤ CAPS) (e1 : H1[H.size]? = some cell) (e2 : H1.size = H.size + 1) (e3 : ∀ q, q < H.size → H1[q]? = H[q]?)
    (hpl : Pl cell) (hc : cell.cls = g.2.1 t0) (hv : cell.vm = .none) (hs : cell.slots.size = h_ln σ p) (hx : ∀ k, k < h_ln σ p → cell.slots[k]? = some (xval g (40 + t0) (h_I σ p) (h_R σ p) k)) : XWd g (dupC σ p) H1 := by
  obtain ⟨-, hp, -⟩ := w.arr ht h8
  obtain ⟨w1, w2, w3, w4, w5, w6, w7⟩ := w
  have tg : ∀ q, h_tg (dupC σ p) q = if q = h_nx σ then h_tg σ p else h_tg σ q := fun q => rfl
  have ln : ∀ q, h_ln (dupC σ p) q = if q = h_nx σ then h_ln σ p else h_ln σ q := fun q => rfl
  refine ⟨by rw [e2, w1]; rfl, hn, hu, fun q hq => ?_, fun q hq => ?_, ?_, ?_⟩
  · by_cases e : q = h_nx σ
    · subst e
      refine ⟨Nat.lt_succ_self _, ?_, cell, by rw [← w1]; exact e1, hpl⟩
      unfold XCellA
      rw [tg, ln, if_pos rfl, if_pos rfl, ← w1, ht, xcid_a, xis_a, xsz_a]
      have eI : h_I (dupC σ p) (h_nx σ) = h_I σ p := funext fun _ => if_pos rfl
      have eR : h_R (dupC σ p) (h_nx σ) = h_R σ p := funext fun _ => if_pos rfl
      rw [eI, eR]
      exact ⟨cell, e1, hc, hv, hs, fun k hk => hx k hk⟩
    · rw [tg, if_neg e] at hq
      obtain ⟨q1, q2, q3⟩ := w4 q hq
      refine ⟨Nat.lt_succ_of_lt q1, ?_, q3.kept (e3 _ (by rw [w1]; omega))⟩
      unfold XCellA at q2 ⊢
      rw [tg, ln, if_neg e, if_neg e]
      have eI : h_I (dupC σ p) q = h_I σ q := funext fun _ => if_neg e
      have eR : h_R (dupC σ p) q = h_R σ q := funext fun _ => if_neg e
      rw [eI, eR]
      exact q2.kept (e3 _ (by rw [w1]; omega))
  · by_cases e : q = h_nx σ
    · subst e
      rw [tg, ln, if_pos rfl, if_pos rfl, ← w1, ht, xsz_a]
      exact ⟨cell, e1, hs⟩
    · rw [tg, ln, if_neg e, if_neg e]
      have hq' : q < h_nx σ := by
        have : q < h_nx σ + 1 := hq
        omega
      obtain ⟨c, q1, q2⟩ := w5 q hq'
      exact ⟨c, by rw [e3 _ (by rw [w1]; omega)]; exact q1, q2⟩
  · show h_us σ + h_ln σ p = sumTo _ (h_nx σ) + xsz (h_tg (dupC σ p) (h_nx σ)) (h_ln (dupC σ p) (h_nx σ))
    rw [tg, ln, if_pos rfl, if_pos rfl, ht, xsz_a, w6]
    congr 1
    refine sumTo_congr fun i hi => ?_
    rw [tg, ln, if_neg (by omega), if_neg (by omega)]
  · refine ⟨fun q hq => ?_, fun q hq => ?_⟩
    · rw [tg] at hq
      by_cases e : q = h_nx σ
      · rw [if_pos e, ht] at hq
        omega
      · rw [if_neg e] at hq
        obtain ⟨i, hi, e', r1, r2⟩ := w7.1 q hq
        exact ⟨i, hi, e', (if_neg e : (if q = h_nx σ then h_R σ p 0 else h_R σ q 0) = _).trans r1, (if_neg e : (if q = h_nx σ then h_I σ p 1 else h_I σ q 1) = _).trans r2⟩
    · rw [tg] at hq
      by_cases e : q = h_nx σ
      · rw [if_pos e, ht] at hq
        omega
      · rw [if_neg e] at hq
        obtain ⟨i, hi, e', r1, r2⟩ := w7.2 q hq
        exact ⟨i, hi, e', (if_neg e : (if q = h_nx σ then h_ln σ p else h_ln σ q) = _).trans r1, fun j hj => (if_neg e : (if q = h_nx σ then h_I σ p j else h_I σ q j) = _).trans (r2 j hj)⟩
theorem gx_clone (C : GC X nL cc "java/util/Arrays") (E : XE X g σ0) {k0 : Nat} {f : Option Nat → Hp → P → Prop} (hd : decode cc pc = .ok (.invokevirtual 310, 3)) (hR : k0 ≤ (cx_R X).frames ∧ 40 * k0 ≤ (cx_R X).locals) (hk : 1 ≤ k0) (hcat : (st.map fun v => v.category).sum ≤ 8)
    (k9 : ∀ v, GJ X nL (xWo g σ0 H0) Q (f v) (pc + 3) L (rv g v :: st)) : GJ X nL (xWo g σ0 H0) Q (pbnd (xclone 43 r) f) pc L (rv g r :: st) := by
  intro σ ⟨p, e, ht, ⟨hn, hu⟩, hfit, h⟩ H locs cs ss ls w l
  subst e
  obtain ⟨w, hS, hc, hs, hn0, hu0, hz0⟩ := w
  obtain ⟨e, hp, cell, h1, h2, h3, h4, h5⟩ := w.arr (t := 3) ht (by decide)
  have hnm : (cx_s X).vm.findClass "[B" = some (g.2.1 3) := va_nm_byte (E.1.1.2 3 _ rfl).2
  obtain ⟨c0, t0', f1, f2, f3⟩ := Cond.castable_spec (va_Nw.use (A := cx_a X) rfl (E.1.2.1 _ q755 rfl))
  cases hnm.symm.trans f1
  show W _ _ _ _ _ _ _ _ _ _ _ _ _ _ _ (F0 _ pc ls (.ref (real g p) :: st))
  rw [e]
  intro T hT X9
  obtain ⟨-, kA, hkA, comp, hkind⟩ := State.isArrayOf_alike X9.warmed.alike ((E.1.1.2 3 _ rfl).1 0 (fun _ => .null))
  obtain ⟨-, kS, hkS, compS, hkindS⟩ := (E.1.1.2 3 _ rfl).1 0 (fun _ => .null)
  obtain ⟨vm', X', st9⟩ := X9.cloneArray C.1 C.2.2.2.2.1 (C.2.2.2.2.2 _ q750) (C.2.2.2.2.2 _ q751) (C.2.2.2.2.2 _ q752) (C.2.2.2.2.2 _ q753) (C.2.2.2.2.2 _ q754) (a := g.2.2.1 + p) (cell := cell) (by rw [hT]; exact h1) (fun k z => by rw [h3] at z; cases z) (by rw [h3]; exact fun z => by cases z) (by rw [h2]; exact hnm) f2 (by rw [h2]; exact f3)
    (fun i v hv => by
      rw [h2]
      have hk' : T.vm.classes[g.2.1 3]? = some kA := hkA
      have hi : i < h_ln σ p := by rw [← h4]; exact (Array.getElem?_eq_some_iff.mp hv).1
      have e9 := h5 i hi
      simp only [id] at e9
      rw [hv] at e9
      cases e9
      simpa [State.fitsSlot, State.slotType?, hk', hkind] using (show fits FieldType.byte (xval g (40 + 3) (h_I σ p) (h_R σ p) i) = true from (inty_b (hfit i hi)).2))
    (g := F0 (cx_m X) pc ls (.ref (g.2.2.1 + p) :: st)) rfl (l.1.trans C.2.2.1.symm) rfl (by rw [C.2.1]; exact hd) (by omega) (by show 2 * 0 + _ + 14 ≤ _; omega) (by rw [E.2.2.1, hc]; omega) (by rw [E.2.2.2.1, hs, h4]; omega) (hloader := by rw [h2]; exact Vm.clonesLoader_of_array hkS hkindS)
  generalize hcell : ({ cls := cell.cls, slots := cell.slots } : Cell) = cell9 at X' st9
  have z1 : (H.push cell9).size = H.size + 1 := by simp
  have z2 : (H.push cell9)[H.size]? = some cell9 := Array.getElem?_push_size
  have z3 : ∀ q : Nat, q < H.size → (H.push cell9)[q]? = H[q]? := fun q hq => by rw [Array.getElem?_push, if_neg (Nat.ne_of_lt hq)]
  have hw' : XWd g (dupC σ p) (H.push cell9) := w.dup (t0 := 3) ht (by decide) hn hu z2 z1 z3 (by rw [← hcell]; exact ⟨rfl, rfl⟩) (by rw [← hcell]; exact h2) (by rw [← hcell]) (by rw [← hcell]; exact h4) (fun k hk => by rw [← hcell]; exact h5 k hk)
  have e9 : Value.ref T.heap.size = rv g (some (h_nx σ)) := by
    show _ = Value.ref (real g (h_nx σ))
    rw [real_lt hn (Nat.le_refl _), hT, w.1]
  have hsl : cell.slots.size = h_ln σ p := h4
  rw [e9] at st9
  rw [hsl] at X'
  obtain ⟨t9, a1, b1⟩ := k9 _ _ h (H.push cell9) locs (cs + 1) (ss + h_ln σ p) ls ⟨hw', xS_new hS z1 z3, by rw [hc]; show _ = h_nx σ + 1 - h_nx σ0; omega, by rw [hs]; show _ = h_us σ + h_ln σ p - h_us σ0; omega, Nat.le_succ_of_le hn0, Nat.le_trans hu0 (Nat.le_add_right _ _), fun x hx => by
    obtain ⟨y1, y2⟩ := hz0 x hx
    exact ⟨(if_neg (by omega)).trans y1, (if_neg (by omega)).trans y2⟩⟩ l ((T.setVm vm').pushCell cell9) (by rw [← hT]; rfl) X'
  exact ⟨t9, st9 t9 a1, b1⟩
theorem gx_castB (C : GC X nL cc own) (E : XE X g σ0) {i : Nat} (hd : decode cc pc = .ok (.checkcast i, 3)) (hl : Cond.classLink own i "[B" ∈ lw_all) (k9 : GJ X nL (xWo g σ0 H0) Q t (pc + 3) L (rv g r :: st)) : GJ X nL (xWo g σ0 H0) Q (pbnd (xrecv r 43) (fun _ => t)) pc L (rv g r :: st) := by
  intro σ ⟨p, e, ht, q⟩ H locs cs ss ls w l
  subst e
  obtain ⟨e, hp, cell, h1, h2, h3, h4, h5⟩ := w.1.arr (t := 3) ht (by decide)
  exact va_castE C.1 C.2.1 C.2.2.2.2.1 (C.2.2.2.2.2 _ hl) ⟨cell, by rw [e]; exact h1, by rw [h3]; rfl, by rw [h2]; exact va_nm_byte (E.1.1.2 3 _ rfl).2⟩ hd (k9 σ q H locs cs ss ls w l)
theorem x_fill {g : XG} {σ : Hp} {T : State} {n k : Nat} (w : XWd g σ T.heap) (hn : h_nx σ + 1 + n ≤ CAPN) (hu : h_us σ + n + n * k ≤ CAPS) : ∀ i, i ≤ n → XWd g (newg σ (h_nx σ) n k i) (Jvm.Free.Multi.fill T (g.2.1 7) (g.2.1 0) n k (.int 0) i).heap ∧ h_nx (newg σ (h_nx σ) n k i) = h_nx σ + 1 + i ∧ h_us (newg σ (h_nx σ) n k i) = h_us σ + n + i * k ∧ h_tg (newg σ (h_nx σ) n k i) (h_nx σ) = 47 ∧ h_ln (newg σ (h_nx σ) n k i) (h_nx σ) = n ∧
    (∀ q, q < h_nx σ → h_tg (newg σ (h_nx σ) n k i) q = h_tg σ q ∧ h_ln (newg σ (h_nx σ) n k i) q = h_ln σ q) := by
  intro i
  induction i with
  | zero =>
    intro _
    refine ⟨?_, rfl, by show h_us σ + n = _; omega, if_pos rfl, if_pos rfl, fun q hq => ⟨if_neg (by omega), if_neg (by omega)⟩⟩
    refine w.new (t0 := 47) (cell := Jvm.Free.Multi.outerC (g.2.1 7) n T.heap.size 0) ⟨by decide, by decide⟩ (by omega) (by omega) rfl ?_ ?_ (fun q hq => ?_) (Jvm.Free.Multi.outerC_facts _ _ _ 0).2.2 ⟨rfl, rfl⟩ (fun _ => ?_)
    · exact (Jvm.Free.Multi.fill_facts T (g.2.1 7) (g.2.1 0) n k (.int 0) 0).2.1
    · exact (Jvm.Free.Multi.fill_facts T (g.2.1 7) (g.2.1 0) n k (.int 0) 0).1
    · exact Jvm.Free.Multi.fill_old T (g.2.1 7) (g.2.1 0) n k (.int 0) hq 0
    · refine ⟨_, (Jvm.Free.Multi.fill_facts T (g.2.1 7) (g.2.1 0) n k (.int 0) 0).2.1, ?_⟩
      obtain ⟨a1, a2, a3⟩ := Jvm.Free.Multi.outerC_facts (g.2.1 7) n T.heap.size 0
      refine ⟨a1, a2, a3, fun j hj => ?_⟩
      have hj' : j < n := hj
      show (Jvm.Free.Multi.outerC (g.2.1 7) n T.heap.size 0).slots[j]? = some (xval g 47 (fun _ => 0) (fun _ => none) j)
      rw [Jvm.Free.Multi.outerC_slot _ _ _ 0 j hj', if_neg (Nat.not_lt_zero _)]
      rfl
  | succ i ih =>
    intro hi
    obtain ⟨w1, hnx, hus, htg, hln, hold⟩ := ih (by omega)
    have hF := Jvm.Free.Multi.fill_facts T (g.2.1 7) (g.2.1 0) n k (.int 0) i
    have hF' := Jvm.Free.Multi.fill_facts T (g.2.1 7) (g.2.1 0) n k (.int 0) (i + 1)
    generalize hS : newg σ (h_nx σ) n k i = σ1 at *
    generalize hT1 : Jvm.Free.Multi.fill T (g.2.1 7) (g.2.1 0) n k (.int 0) i = T1 at *
    have hb0 : T.heap.size = g.2.2.1 + h_nx σ := w.1
    have hmul : (i + 1) * k = i * k + k := Nat.succ_mul i k
    have hle : (i + 1) * k ≤ n * k := Nat.mul_le_mul_right k hi
    -- the row
    have w2 : XWd g (newC σ1 40 k k) (T1.pushCell (Jvm.Free.Multi.innerC (g.2.1 0) k (.int 0))).heap := by
      refine w1.new (t0 := 40) (cell := Jvm.Free.Multi.innerC (g.2.1 0) k (.int 0)) ⟨by decide, by decide⟩ (by omega) (by omega) rfl (State.heap_pushCell_size _ _) (by simp) (fun q hq => State.heap_pushCell_of_lt _ _ hq) (by simp [Jvm.Free.Multi.innerC]) ⟨rfl, rfl⟩ (fun _ => ?_)
      refine ⟨_, State.heap_pushCell_size _ _, rfl, rfl, by simp [Jvm.Free.Multi.innerC]; rfl, fun j hj => ?_⟩
      have hj' : j < k := hj
      show (Jvm.Free.Multi.innerC (g.2.1 0) k (.int 0)).slots[j]? = some (xval g 40 (fun _ => 0) (fun _ => none) j)
      simp [Jvm.Free.Multi.innerC, hj']
      rfl
    have hlt1 : T.heap.size < T1.heap.size := by rw [hF.1]; omega
    have hc1 : (T1.pushCell (Jvm.Free.Multi.innerC (g.2.1 0) k (.int 0))).heap[T.heap.size]? = some (Jvm.Free.Multi.outerC (g.2.1 7) n T.heap.size i) := by rw [State.heap_pushCell_of_lt (h := hlt1)]; exact hF.2.1
    have hnew : newg σ (h_nx σ) n k (i + 1) = setR (newC σ1 40 k k) (h_nx σ) i (some (h_nx σ1)) := by
      show setR (newC (newg σ (h_nx σ) n k i) 40 k k) (h_nx σ) i (some (h_nx (newg σ (h_nx σ) n k i))) = _
      rw [hS]
    have hfill : Jvm.Free.Multi.fill T (g.2.1 7) (g.2.1 0) n k (.int 0) (i + 1) = (T1.pushCell (Jvm.Free.Multi.innerC (g.2.1 0) k (.int 0))).setCell T.heap.size (Jvm.Free.Multi.outerC (g.2.1 7) n T.heap.size (i + 1)) := by
      show ((Jvm.Free.Multi.fill T (g.2.1 7) (g.2.1 0) n k (.int 0) i).pushCell _).setCell _ _ = _
      rw [hT1]
    have tg2 : h_tg (newC σ1 40 k k) (h_nx σ) = 47 := (if_neg (by omega)).trans htg
    have ln2 : h_ln (newC σ1 40 k k) (h_nx σ) = n := (if_neg (by omega)).trans hln
    rw [hnew, hfill]
    refine ⟨?_, by show h_nx σ1 + 1 = _; omega, by show h_us σ1 + k = _; omega, tg2, ln2, fun q hq => ?_⟩
    · have h2' : h_nx σ < h_nx (newC σ1 40 k k) := by show _ < h_nx σ1 + 1; omega
      obtain ⟨-, -, cell, x1, x2, x3, x4, x5⟩ := w2.arr (t := 7) tg2 (by decide)
      rw [← hb0] at x1
      cases hc1.symm.trans x1
      have s1 : ((T1.pushCell (Jvm.Free.Multi.innerC (g.2.1 0) k (.int 0))).setCell T.heap.size (Jvm.Free.Multi.outerC (g.2.1 7) n T.heap.size (i + 1))).heap[T.heap.size]? = some (Jvm.Free.Multi.outerC (g.2.1 7) n T.heap.size (i + 1)) := State.heap_setCell_self hc1
      have hoi : Jvm.Free.Multi.outerC (g.2.1 7) n T.heap.size (i + 1) = (Jvm.Free.Multi.outerC (g.2.1 7) n T.heap.size i).setSlot i (rv g (some (h_nx σ1))) := by
        show (Jvm.Free.Multi.outerC (g.2.1 7) n T.heap.size i).setSlot i (.ref (T.heap.size + 1 + i)) = _
        have e9 : rv g (some (h_nx σ1)) = .ref (T.heap.size + 1 + i) := by
          show Value.ref (real g (h_nx σ1)) = _
          rw [real_lt (n := h_nx σ1 + 1) (Nat.lt_succ_self _) (by omega)]
          have e8 : (g.2.2.1 + h_nx σ1 : Nat) = (T.heap.size + 1 + i : Nat) := by omega
          exact congrArg Value.ref e8
        rw [e9]
      refine w2.put (σ' := setR (newC σ1 40 k k) (h_nx σ) i (some (h_nx σ1))) (p := h_nx σ) (i := i) (v := rv g (some (h_nx σ1))) (cell := Jvm.Free.Multi.outerC (g.2.1 7) n T.heap.size i) h2' rfl rfl rfl rfl (fun _ _ => rfl) (fun q hq => upR_row hq) (by rw [← hb0]; exact hc1) (by rw [← hb0, s1, hoi]) (by simp [State.setCell]) (fun q hq => State.heap_setCell_other (by rw [hb0]; exact fun z => hq z.symm)) (fun _ => ?_)
      unfold XCellA
      show XAt _ _ (xcid g (h_tg (newC σ1 40 k k) (h_nx σ))) _ _ _
      rw [show h_tg (setR (newC σ1 40 k k) (h_nx σ) i (some (h_nx σ1))) (h_nx σ) = 40 + 7 from tg2, show h_ln (setR (newC σ1 40 k k) (h_nx σ) i (some (h_nx σ1))) (h_nx σ) = n from ln2, tg2]
      rw [ln2] at x4 x5
      refine XAt.set (cell := Jvm.Free.Multi.outerC (g.2.1 7) n T.heap.size i) (k := i) (v := rv g (some (h_nx σ1))) (V := xval g (40 + 7) (h_I (newC σ1 40 k k) (h_nx σ)) (h_R (newC σ1 40 k k) (h_nx σ))) x2 x3 x4 x5 (fun _ _ _ _ h => h) (by show i < n; omega) (by rw [← hb0, s1, hoi]; rfl) ?_ (fun j _ hj => ?_)
      · rw [xval_ar (by decide)]
        show rv g (upR _ _ _ _ (h_nx σ) i) = _
        rw [upR_self]
      · exact xval_R_ne hj
    · obtain ⟨y1, y2⟩ := hold q hq
      exact ⟨(if_neg (by omega)).trans y1, (if_neg (by omega)).trans y2⟩
theorem gx_newg (C : GC X nL cc own) (E : XE X g σ0) {i : Nat} {f : Option Nat → Hp → P → Prop} (hd : decode cc pc = .ok (.multianewarray i 2, 4)) (hl : Cond.classLink own i "[[I" ∈ lw_all) (k9 : ∀ v, GJ X nL (xWo g σ0 H0) Q (f v) (pc + 4) L (rv g v :: st)) : GJ X nL (xWo g σ0 H0) Q (pbnd (xnewg a b) f) pc L (.int (iI b) :: .int (iI a) :: st) := by
  intro σ ⟨⟨ha, hb, ha2, hb2, hn, hu⟩, q⟩ H locs cs ss ls w l
  obtain ⟨w, hS, hc, hs, hn0, hu0, hz0⟩ := w
  have hcl : ("[" ++ (FieldType.array .int).toString) = "[[I" := by decide +kernel
  have harr0 : ("[" ++ FieldType.int.toString) = (FieldType.array .int).toString := by decide +kernel
  intro T hT X9
  obtain ⟨vm₁, cA, comp, hW, hfA, hfC, -, -, X1, step⟩ := X9.multianewarray2F (ty := .int) (n := iI a) (k := iI b) (rest := st) (index := i) C.1 C.2.2.2.2.1 (by rw [hcl]; exact C.2.2.2.2.2 _ hl) E.1.2.2.2.2.2.1 (C.2.2.2.2.2 _ q340) (g := F0 (cx_m X) pc ls (.int (iI b) :: .int (iI a) :: st)) rfl (by rw [C.2.1]; exact hd) rfl (neg32 ha) (neg32 hb) (by rw [iI_clamp]; omega) (by rw [iI_clamp]; exact Nat.le_trans (Nat.mul_le_mul (show (w32 b).toNat ≤ 1000 by omega) (show componentBytes .int ≤ 8 by decide)) (by decide)) (by rw [iI_clamp]; omega) rfl rfl (by rw [E.2.2.1, hc, iI_clamp]; omega) (by rw [E.2.2.2.1, hs, iI_clamp, iI_clamp]; omega)
  have hA : cA = g.2.1 7 := arrC_id (s := cx_s X) (ty := .array .int) hfA (ra_name (E.1.1.2 7 _ rfl).2)
  have hB : comp = g.2.1 0 := arrC_id (s := cx_s X) (ty := .int) (by rw [harr0]; exact hfC) (ra_name (E.1.1.2 0 _ rfl).2)
  subst hA hB
  rw [iI_clamp, iI_clamp] at X1 step
  have hT' : (T.setVm vm₁).heap = H := hT
  have w9 : XWd g σ (T.setVm vm₁).heap := by rw [hT']; exact w
  obtain ⟨z1, z2, z3, -, -, z4⟩ := x_fill (n := (w32 a).toNat) (k := (w32 b).toNat) w9 hn hu (w32 a).toNat (Nat.le_refl _)
  have e9 : Value.ref T.heap.size = rv g (some (h_nx σ)) := by
    show _ = Value.ref (real g (h_nx σ))
    rw [real_lt (n := h_nx σ + 1) (Nat.lt_succ_self _) (by omega), hT, w.1]
  rw [e9] at step
  have hsz := (Jvm.Free.Multi.fill_facts (T.setVm vm₁) (g.2.1 7) (g.2.1 0) (w32 a).toNat (w32 b).toNat (.int 0) (w32 a).toNat).1
  obtain ⟨t9, a1, b1⟩ := k9 _ _ q _ locs (cs + 1 + (w32 a).toNat) (ss + (w32 a).toNat + (w32 a).toNat * (w32 b).toNat) ls ⟨z1, ⟨Nat.le_trans hS.1 (by rw [hsz, hT']; omega), fun x h1 h2 => by
      rw [Jvm.Free.Multi.fill_old (T.setVm vm₁) _ _ _ _ _ (by rw [hT']; exact Nat.lt_of_lt_of_le h1 hS.1), hT']
      exact hS.2.1 x h1 h2, hS.2.2⟩, by rw [hc, z2]; omega, by rw [hs, z3]; omega, by rw [z2]; omega, by rw [z3]; omega, fun x hx => by
      obtain ⟨y1, y2⟩ := hz0 x hx
      obtain ⟨y3, y4⟩ := z4 x (by omega)
      exact ⟨y3.trans y1, y4.trans y2⟩⟩ l _ rfl X1
  exact ⟨t9, step t9 a1, b1⟩
theorem good_cons {w : Cond} {T ws : List Cond} (h : GoodIn T ws) : GoodIn (w :: T) ws := fun x hx => ⟨List.mem_cons_of_mem _ (h x hx).1, (h x hx).2⟩
/-- a private method of AbstractStringBuilder through a StringBuilder -/
theorem gx_callPV (C : GC X nL cc own) (E : XE X g σ0) {f : PT Hp Unit} {kf : Unit → Hp → P → Prop} {As rest : List Value} {k i : Nat} {yc : ByteArray} {nL' : Nat} {ret : Option FieldType} (hd : decode cc pc = .ok (.invokevirtual i, 3)) (hM : XMet (cx_l X) g ⟨"java/lang/AbstractStringBuilder", "ensureCapacityInternal", "(I)V"⟩ yc nL' ret k (rv g r :: As) f rvV)
    (h1 : Cond.methodLink own i ⟨"java/lang/AbstractStringBuilder", "ensureCapacityInternal", "(I)V"⟩ ∈ lw_all) (h2 : Cond.sameMethod "java/lang/AbstractStringBuilder" "java/lang/AbstractStringBuilder" "ensureCapacityInternal" "(I)V" ∈ lw_all) (h5 : Cond.instanceMethod ⟨"java/lang/AbstractStringBuilder", "ensureCapacityInternal", "(I)V"⟩ ∈ lw_all) (h6 : Cond.initialized "java/lang/AbstractStringBuilder" ∈ lw_all) (h7 : Cond.code ⟨"java/lang/AbstractStringBuilder", "ensureCapacityInternal", "(I)V"⟩ yc nL' ret ∈ lw_all)
    {k0 : Nat} (hR : k0 ≤ (cx_R X).frames ∧ 40 * k0 ≤ (cx_R X).locals) (hk : k + 1 ≤ k0) (hn' : nL' ≤ 20) (hlen : As.length = 1) {st0 : List Value} (hst : st0 = As.reverse ++ rv g r :: rest) (hcat : (rest.map fun v => v.category).sum ≤ 8)
    (kk : GJ X nL (xWo g σ0 (cx_s X).heap) Q (kf ()) (pc + 3) L rest) : GJ X nL (xWo g σ0 (cx_s X).heap) Q (pbnd (xrecv r 27) (fun _ => pbnd f kf)) pc L st0 := by
  refine gx_callUV C E (t0 := 27) rfl hd hM (x := ⟨"java/lang/AbstractStringBuilder", "ensureCapacityInternal", "(I)V"⟩) (owner := "java/lang/AbstractStringBuilder") (n := 1) (fun σ => va_cwU (Ts := selEC :: lw_all) 1 (fun w hw => ?_) (fun w hw => ?_) rfl rfl rfl rfl ⟨by decide, by decide, by decide +kernel⟩ (xRoom E hR hk hn' σ)) hR hk hn' hlen hst hcat kk
  · rcases List.mem_cons.mp hw with e | e
    · rw [e]
      exact va_Nw.use rfl E.1.2.2.2.2.2.2
    · exact C.2.2.2.2.2 w e
  · unfold va_wsU at hw
    rcases List.mem_append.mp hw with e | e
    · simp only [List.mem_cons, List.not_mem_nil, or_false] at e
      rcases e with e | e | e | e | e
      · rw [e]; exact good_cons (lw_app (a := [_]) (fun x hx => by rw [List.mem_singleton.mp hx]; exact h1) (lw_meth h7)) _ (List.mem_append_left _ (List.mem_singleton.mpr rfl))
      · rw [e]; exact good_cons (lw_app (a := [_]) (fun x hx => by rw [List.mem_singleton.mp hx]; exact h2) (lw_meth h7)) _ (List.mem_append_left _ (List.mem_singleton.mpr rfl))
      · rw [e]; exact ⟨List.mem_cons_self, Or.inl rfl⟩
      · rw [e]; exact good_cons (lw_app (a := [_]) (fun x hx => by rw [List.mem_singleton.mp hx]; exact h5) (lw_meth h7)) _ (List.mem_append_left _ (List.mem_singleton.mpr rfl))
      · rw [e]; exact good_cons (lw_app (a := [_]) (fun x hx => by rw [List.mem_singleton.mp hx]; exact h6) (lw_meth h7)) _ (List.mem_append_left _ (List.mem_singleton.mpr rfl))
    · exact good_cons (lw_meth h7) w e
/-- super.m(..) -/
theorem gx_callSU {α : Type} (C : GC X nL cc own) (E : XE X g σ0) {f : PT Hp α} {rw9 : α → Option Value} {kf : α → Hp → P → Prop} {As rest : List Value} {k n i : Nat} {y : MethodName} {yc : ByteArray} {nL' : Nat} {ret : Option FieldType}
    {t0 : Nat} {r0 : vw_C} (hr0 : xcl[t0]? = some r0) (hd : decode cc pc = .ok (.invokespecial i, 3)) (hM : XMet (cx_l X) g y yc nL' ret k (rv g r :: As) f rw9) (h1 : Cond.methodLink own i y ∈ lw_all) (h2 : Cond.sameMethod y.cls y.cls y.name y.desc ∈ lw_all) (h3 : Cond.superclass own y.cls ∈ lw_all) (h5 : Cond.instanceMethod y ∈ lw_all) (h6 : Cond.initialized y.cls ∈ lw_all) (h7 : Cond.code y yc nL' ret ∈ lw_all)
    (hy : y.name ≠ "<init>" ∧ (parseMethodDescriptor y.desc).map (fun d => d.parameters.length) = some n) {k0 : Nat} (hR : k0 ≤ (cx_R X).frames ∧ 40 * k0 ≤ (cx_R X).locals) (hk : k + 1 ≤ k0) (hn' : nL' ≤ 20) (hlen : As.length = n) {st0 : List Value} (hst : st0 = As.reverse ++ rv g r :: rest) (hcat : (rest.map fun v => v.category).sum ≤ 8)
    (kk : ∀ r, GJ X nL (xWo g σ0 (cx_s X).heap) Q (kf r) (pc + 3) L ((rw9 r).toList ++ rest)) : GJ X nL (xWo g σ0 (cx_s X).heap) Q (pbnd (xrecv r t0) (fun _ => pbnd f kf)) pc L st0 := by
  subst hst
  intro σ ⟨p, e, ht, q⟩ H locs cs ss ls w l
  subst e
  refine gx_run (f := fun σ Q' => h_tg σ p = t0 ∧ f σ Q') (As := rv g (some p) :: As) (k := k) (y := y) (yc := yc) (nL' := nL') (ret := ret) E (fun σ Q' H locs cs ss ls q w l => ?_) kk σ ⟨ht, q⟩ H locs cs ss ls w l
  obtain ⟨ht, q⟩ := q
  have w0 := w.1
  obtain ⟨hSl, hfc, kC, hkC, hkind⟩ := E.1.1.1 t0 r0 hr0
  exact va_runSU (nL := nL) (As := As) (rest := rest) ⟨hfc, kC, hkC, hkind⟩ ⟨C.1, C.2.1, C.2.2.1, C.2.2.2.2.1, C.2.2.2.2.2⟩ (hM Q' σ q) (va_cwSU n C.2.2.2.2.2 (lw_app (xl5 h1 h2 h3 h5 h6) (lw_meth h7)) rfl rfl rfl hy (xRoom E hR hk hn' σ)) ⟨xPc_blind _ σ, x_recv E.1 w0 ht hr0, fun U hU hW => ⟨rfl, xPre E w hU hW⟩⟩ rfl hlen l.1 rfl (lv_room hcat) hd (xFit E w)
theorem gx_callSUI (C : GC X nL cc own) (E : XE X g σ0) {f : PT Hp Int} {kf : Int → Hp → P → Prop} {As rest : List Value} {k n i : Nat} {y : MethodName} {yc : ByteArray} {nL' : Nat} {ret : Option FieldType}
    {t0 : Nat} {r0 : vw_C} (hr0 : xcl[t0]? = some r0) (hd : decode cc pc = .ok (.invokespecial i, 3)) (hM : XMet (cx_l X) g y yc nL' ret k (rv g r :: As) f rvI) (h1 : Cond.methodLink own i y ∈ lw_all) (h2 : Cond.sameMethod y.cls y.cls y.name y.desc ∈ lw_all) (h3 : Cond.superclass own y.cls ∈ lw_all) (h5 : Cond.instanceMethod y ∈ lw_all) (h6 : Cond.initialized y.cls ∈ lw_all) (h7 : Cond.code y yc nL' ret ∈ lw_all)
    (hy : y.name ≠ "<init>" ∧ (parseMethodDescriptor y.desc).map (fun d => d.parameters.length) = some n) {k0 : Nat} (hR : k0 ≤ (cx_R X).frames ∧ 40 * k0 ≤ (cx_R X).locals) (hk : k + 1 ≤ k0) (hn' : nL' ≤ 20) (hlen : As.length = n) {st0 : List Value} (hst : st0 = As.reverse ++ rv g r :: rest) (hcat : (rest.map fun v => v.category).sum ≤ 8)
    (kk : ∀ r9, GJ X nL (xWo g σ0 (cx_s X).heap) Q (kf r9) (pc + 3) L (.int (iI r9) :: rest)) : GJ X nL (xWo g σ0 (cx_s X).heap) Q (pbnd (xrecv r t0) (fun _ => pbnd f kf)) pc L st0 := gx_callSU C E hr0 hd hM h1 h2 h3 h5 h6 h7 hy hR hk hn' hlen hst hcat kk
theorem gx_callSUR (C : GC X nL cc own) (E : XE X g σ0) {f : PT Hp (Option Nat)} {kf : Option Nat → Hp → P → Prop} {As rest : List Value} {k n i : Nat} {y : MethodName} {yc : ByteArray} {nL' : Nat} {ret : Option FieldType}
    {t0 : Nat} {r0 : vw_C} (hr0 : xcl[t0]? = some r0) (hd : decode cc pc = .ok (.invokespecial i, 3)) (hM : XMet (cx_l X) g y yc nL' ret k (rv g r :: As) f (rvR g)) (h1 : Cond.methodLink own i y ∈ lw_all) (h2 : Cond.sameMethod y.cls y.cls y.name y.desc ∈ lw_all) (h3 : Cond.superclass own y.cls ∈ lw_all) (h5 : Cond.instanceMethod y ∈ lw_all) (h6 : Cond.initialized y.cls ∈ lw_all) (h7 : Cond.code y yc nL' ret ∈ lw_all)
    (hy : y.name ≠ "<init>" ∧ (parseMethodDescriptor y.desc).map (fun d => d.parameters.length) = some n) {k0 : Nat} (hR : k0 ≤ (cx_R X).frames ∧ 40 * k0 ≤ (cx_R X).locals) (hk : k + 1 ≤ k0) (hn' : nL' ≤ 20) (hlen : As.length = n) {st0 : List Value} (hst : st0 = As.reverse ++ rv g r :: rest) (hcat : (rest.map fun v => v.category).sum ≤ 8)
    (kk : ∀ r9, GJ X nL (xWo g σ0 (cx_s X).heap) Q (kf r9) (pc + 3) L (rv g r9 :: rest)) : GJ X nL (xWo g σ0 (cx_s X).heap) Q (pbnd (xrecv r t0) (fun _ => pbnd f kf)) pc L st0 := gx_callSU C E hr0 hd hM h1 h2 h3 h5 h6 h7 hy hR hk hn' hlen hst hcat kk
theorem gx_shI {rest : List Value} {kf : Int → Hp → P → Prop} {x : PT Hp Int} (h : (∀ r9, GJ X nL (xWo g σ0 H0) Q (kf r9) (pc + 3) L (.int (iI r9) :: rest)) → GJ X nL (xWo g σ0 H0) Q (pbnd x kf) pc L st) (k : ∀ r9, GJ X nL (xWo g σ0 H0) Q (kf r9) (pc + 3) L (.int (iI r9) :: rest)) : GJ X nL (xWo g σ0 H0) Q (pbnd x kf) pc L st := h k
theorem gx_shL {rest : List Value} {kf : Int → Hp → P → Prop} {x : PT Hp Int} (h : (∀ r9, GJ X nL (xWo g σ0 H0) Q (kf r9) (pc + 3) L (.long (iL r9) :: rest)) → GJ X nL (xWo g σ0 H0) Q (pbnd x kf) pc L st) (k : ∀ r9, GJ X nL (xWo g σ0 H0) Q (kf r9) (pc + 3) L (.long (iL r9) :: rest)) : GJ X nL (xWo g σ0 H0) Q (pbnd x kf) pc L st := h k
theorem gx_shR {rest : List Value} {kf : (Option Nat) → Hp → P → Prop} {x : PT Hp (Option Nat)} (h : (∀ r9, GJ X nL (xWo g σ0 H0) Q (kf r9) (pc + 3) L (rv g r9 :: rest)) → GJ X nL (xWo g σ0 H0) Q (pbnd x kf) pc L st) (k : ∀ r9, GJ X nL (xWo g σ0 H0) Q (kf r9) (pc + 3) L (rv g r9 :: rest)) : GJ X nL (xWo g σ0 H0) Q (pbnd x kf) pc L st := h k
theorem gx_shV {rest : List Value} {kf : Unit → Hp → P → Prop} {x : PT Hp Unit} (h : GJ X nL (xWo g σ0 H0) Q (kf ()) (pc + 3) L rest → GJ X nL (xWo g σ0 H0) Q (pbnd x kf) pc L st) (k : GJ X nL (xWo g σ0 H0) Q (kf ()) (pc + 3) L rest) : GJ X nL (xWo g σ0 H0) Q (pbnd x kf) pc L st := h k
end XNAT
