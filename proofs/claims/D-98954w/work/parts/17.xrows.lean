/-! THE COMPONENT's ROWS: the instructions that touch its heap. -/
/-- the world of a walk that began with σ0 over the heap H0 -/
def xWo (g : XG) (σ0 : Hp) (H0 : Heap) : Wo Hp := fun σ H locs cs ss => XWd g σ H ∧ va_S (xA g) H0 H locs ∧ cs = h_nx σ - h_nx σ0 ∧ ss = h_us σ - h_us σ0 ∧ h_nx σ0 ≤ h_nx σ ∧ h_us σ0 ≤ h_us σ ∧ ∀ p, p < h_nx σ0 → h_tg σ p = h_tg σ0 p ∧ h_ln σ p = h_ln σ0 p
/-- what else is known in a body: classes, where the heap began, the room -/
def XE (X : Cx) (g : XG) (σ0 : Hp) : Prop := XK g (cx_s X) ∧ (cx_s X).heap.size = g.2.2.1 + h_nx σ0 ∧ (cx_R X).cells = CAPN - h_nx σ0 ∧ (cx_R X).slots = CAPS - h_us σ0 ∧ XCst g (cx_s X) (cx_s X).heap ∧ h_us σ0 = sumTo (fun p => xsz (h_tg σ0 p) (h_ln σ0 p)) (h_nx σ0)
/-- class t lays field k so -/
def xhas (t k : Nat) (O nm ds : String) (fin : Bool) (kd : Nat) : Bool := match xcl[t]? with
  | some r => decide (k < r.2.2) && (r.2.1 k == (O, nm, ds, fin)) && (fkd t k == kd)
  | none => false
theorem xhas_spec {t k : Nat} {O nm ds : String} {fin : Bool} {kd : Nat} (h : xhas t k O nm ds fin kd = true) : ∃ r, xcl[t]? = some r ∧ k < r.2.2 ∧ r.2.1 k = (O, nm, ds, fin) ∧ fkd t k = kd ∧ t < 29 := by
  unfold xhas at h
  split at h
  next r e =>
    simp only [Bool.and_eq_true, decide_eq_true_eq, beq_iff_eq] at h
    exact ⟨r, e, h.1.1, h.1.2, h.2, xcl_lt e⟩
  next => cases h
section XROWS
variable {P : Type} {X : Cx} {g : XG} {nL : Nat} {σ0 : Hp} {H0 : Heap} {Q : P} {cc : ByteArray} {own : String} {pc : Nat} {L L' : List (Nat × Value)} {st : List Value} {a b : Int} {r q : Option Nat} {t : Hp → P → Prop}
/-! references in locals and on the stack -/
theorem gx_null (C : GC X nL cc own) (hd : decode cc pc = .ok (.aconst_null, 1)) (k : GJ X nL (xWo g σ0 H0) Q t (pc + 1) L (rv g none :: st)) : GJ X nL (xWo g σ0 H0) Q t pc L st := fun σ h H locs cs ss ls w l => lv_null C.1 C.2.1 hd (k σ h H locs cs ss ls w l)
theorem gx_aload_n (C : GC X nL cc own) {i : Fin 4} (hd : decode cc pc = .ok (.aload_n i, 1)) (j : Nat) (hj : L[j]? = some ((i : Nat), rv g r)) (k : GJ X nL (xWo g σ0 H0) Q t (pc + 1) L (rv g r :: st)) : GJ X nL (xWo g σ0 H0) Q t pc L st := by
  intro σ h H locs cs ss ls w l
  have k1 := k σ h H locs cs ss ls w l
  cases r with
  | none => exact lv_aload_nN C.1 C.2.1 hd rfl (lv_at l j hj) k1
  | some x => exact lv_aload_n C.1 C.2.1 hd rfl (lv_at l j hj) k1
theorem gx_aload (C : GC X nL cc own) {i : Nat} (hd : decode cc pc = .ok (.aload i, 2)) (j : Nat) (hj : L[j]? = some (i, rv g r)) (k : GJ X nL (xWo g σ0 H0) Q t (pc + 2) L (rv g r :: st)) : GJ X nL (xWo g σ0 H0) Q t pc L st := by
  intro σ h H locs cs ss ls w l
  have k1 := k σ h H locs cs ss ls w l
  cases r with
  | none => exact lv_aloadN C.1 C.2.1 hd (lv_at l j hj) k1
  | some x => exact lv_aload C.1 C.2.1 hd (lv_at l j hj) k1
theorem gx_astore_n (C : GC X nL cc own) {i : Fin 4} (hd : decode cc pc = .ok (.astore_n i, 1)) (hn : (i : Nat) < nL) (hL : ((i : Nat), rv g r) :: L.filter (fun q => !(q.1 == (i : Nat)) && !(q.1 + 1 == (i : Nat) && q.2.category == 2)) = L') (k : GJ X nL (xWo g σ0 H0) Q t (pc + 1) L' st) : GJ X nL (xWo g σ0 H0) Q t pc L (rv g r :: st) := by
  intro σ h H locs cs ss ls w l
  cases r with
  | none => exact lv_astore_nN C.1 C.2.1 hd rfl l hn hL (fun ls' l' => k σ h H locs cs ss ls' w l')
  | some x => exact lv_astore_n C.1 C.2.1 hd rfl l hn hL (fun ls' l' => k σ h H locs cs ss ls' w l')
theorem gx_astore (C : GC X nL cc own) {i : Nat} (hd : decode cc pc = .ok (.astore i, 2)) (hn : i < nL) (hL : (i, rv g r) :: L.filter (fun q => !(q.1 == i) && !(q.1 + 1 == i && q.2.category == 2)) = L') (k : GJ X nL (xWo g σ0 H0) Q t (pc + 2) L' st) : GJ X nL (xWo g σ0 H0) Q t pc L (rv g r :: st) := by
  intro σ h H locs cs ss ls w l
  cases r with
  | none => exact lv_astoreN C.1 C.2.1 hd l hn hL (fun ls' l' => k σ h H locs cs ss ls' w l')
  | some x => exact lv_astore C.1 C.2.1 hd l hn hL (fun ls' l' => k σ h H locs cs ss ls' w l')
theorem rv_cat (g : XG) (r : Option Nat) : (rv g r).category = 1 := by cases r <;> rfl
theorem gx_dup (C : GC X nL cc own) (hd : decode cc pc = .ok (.dup, 1)) (k : GJ X nL (xWo g σ0 H0) Q t (pc + 1) L (rv g r :: rv g r :: st)) : GJ X nL (xWo g σ0 H0) Q t pc L (rv g r :: st) := gj_dup C hd (rv_cat g r) k
variable {off : Int} {tgt : Nat}
theorem gx_ifnull (C : GC X nL cc own) (hd : decode cc pc = .ok (.ifnull off, 3)) (ht : (pc : Int) + off = (tgt : Int)) (kt : r = none → GJ X nL (xWo g σ0 H0) Q t tgt L st) (kf : ¬ r = none → GJ X nL (xWo g σ0 H0) Q t (pc + 3) L st) : GJ X nL (xWo g σ0 H0) Q t pc L (rv g r :: st) := by
  intro σ h H locs cs ss ls w l
  cases r with
  | none => exact lv_ifnullN C.1 C.2.1 hd ht (kt rfl σ h H locs cs ss ls w l)
  | some x => exact lv_ifnull C.1 C.2.1 hd (kf (fun e => by cases e) σ h H locs cs ss ls w l)
theorem gx_ifnonnull (C : GC X nL cc own) (hd : decode cc pc = .ok (.ifnonnull off, 3)) (ht : (pc : Int) + off = (tgt : Int)) (kt : ¬ r = none → GJ X nL (xWo g σ0 H0) Q t tgt L st) (kf : r = none → GJ X nL (xWo g σ0 H0) Q t (pc + 3) L st) : GJ X nL (xWo g σ0 H0) Q t pc L (rv g r :: st) := by
  intro σ h H locs cs ss ls w l
  cases r with
  | none => exact lv_ifnonnullN C.1 C.2.1 hd (kf rfl σ h H locs cs ss ls w l)
  | some x => exact lv_ifnonnull C.1 C.2.1 hd ht (kt (fun e => by cases e) σ h H locs cs ss ls w l)
/-! fields -/
/-- the machine's part of reading a field -/
theorem xj_get (C : GC X nL cc own) (K : XK g (cx_s X)) {p t0 k i : Nat} {O nm ds ref : String} {fin : Bool} {kd : Nat} {σ : Hp} {H : Heap} {locs : List Loc} {cs ss : Nat} {ls : Array Slot} (hh : xhas t0 k O nm ds fin kd = true) (ht : h_tg σ p = t0)
    (hlink : Cond.fieldLink own i ref nm ds ∈ lw_all ∨ ∃ ho, Cond.fieldLinkNest own i ref nm ds ho ∈ lw_tbl) (hsame : ∀ x, (cx_s X).fieldFound? O nm ds = some x → (cx_s X).fieldFound? ref nm ds = some x) (hd : decode cc pc = .ok (.getfield i, 3)) (w : XWd g σ H)
    (kk : W (cx_p X) (cx_l X) (cx_e X) (cx_R X) (cx_s X) (cx_m X) (cx_a X) (cx_b X) (cx_y X) (cx_c X) H locs cs ss (cx_q X) (F0 (cx_m X) (pc + 3) ls (xval g t0 (h_I σ p) (h_R σ p) k :: st))) :
    W (cx_p X) (cx_l X) (cx_e X) (cx_R X) (cx_s X) (cx_m X) (cx_a X) (cx_b X) (cx_y X) (cx_c X) H locs cs ss (cx_q X) (F0 (cx_m X) pc ls (rv g (some p) :: st)) := by
  obtain ⟨r, hr, hk, hT, -, h29⟩ := xhas_spec hh
  obtain ⟨e, -, cell, h1, h2, h3, h4, h5⟩ := w.obj ht h29
  obtain ⟨cf, kf, fi, fd, hi, he, hst⟩ := xfld C.2.2.2.2.2 K hr hk
  rw [hT] at hi
  have hn : k < fnum t0 := by rw [← xnum hr]; exact hk
  have hv := h5 k hn
  rw [← he] at hv
  show W _ _ _ _ _ _ _ _ _ _ _ _ _ _ _ (F0 _ pc ls (.ref (real g p) :: st))
  rw [e]
  rcases hlink with hl | ⟨ho, hl⟩
  · exact W.getf C.1 C.2.1 C.2.2.2.2.1 (C.2.2.2.2.2 _ hl) (hsame _ hi) hst h1 (by rw [h3]; exact fun z => by cases z) hv rfl rfl hd kk
  · exact va_Wgetf C.1 C.2.1 C.2.2.2.2.1 (va_Nw.use rfl (K.2.1 _ hl rfl)) (hsame _ hi) hst h1 (by rw [h3]; exact fun z => by cases z) hv rfl rfl hd kk
theorem xval_i {g : XG} {t k : Nat} {I : Nat → Int} {R : Nat → Option Nat} (h : t < 29) (hk : fkd t k = 0) : xval g t I R k = .int (iI (I k)) := by
  unfold xval xkd; rw [if_pos (by omega), hk]; rfl
theorem xval_l {g : XG} {t k : Nat} {I : Nat → Int} {R : Nat → Option Nat} (h : t < 29) (hk : fkd t k = 1) : xval g t I R k = .long (iL (I k)) := by
  unfold xval xkd; rw [if_pos (by omega), hk]; rfl
theorem xval_r {g : XG} {t k : Nat} {I : Nat → Int} {R : Nat → Option Nat} (h : t < 29) (hk : fkd t k = 2) : xval g t I R k = rv g (R k) := by
  unfold xval xkd; rw [if_pos (by omega), hk]; rfl
theorem gx_gI (C : GC X nL cc own) (E : XE X g σ0) {t0 k i : Nat} {O nm ds ref : String} {fin : Bool} {f : Int → Hp → P → Prop} (hd : decode cc pc = .ok (.getfield i, 3)) (hh : xhas t0 k O nm ds fin 0 = true) (hl : Cond.fieldLink own i ref nm ds ∈ lw_all ∨ ∃ ho, Cond.fieldLinkNest own i ref nm ds ho ∈ lw_tbl) (hsame : ∀ x, (cx_s X).fieldFound? O nm ds = some x → (cx_s X).fieldFound? ref nm ds = some x)
    (k9 : ∀ v, GJ X nL (xWo g σ0 H0) Q (f v) (pc + 3) L (.int (iI v) :: st)) : GJ X nL (xWo g σ0 H0) Q (pbnd (xgI r t0 k) f) pc L (rv g r :: st) := by
  intro σ ⟨p, e, ht, q⟩ H locs cs ss ls w l
  subst e
  obtain ⟨_, _, _, _, hkd, h29⟩ := xhas_spec hh
  refine xj_get C E.1 hh ht hl hsame hd w.1 ?_
  rw [xval_i h29 hkd]
  exact k9 _ σ q H locs cs ss ls w l
theorem gx_gL (C : GC X nL cc own) (E : XE X g σ0) {t0 k i : Nat} {O nm ds ref : String} {fin : Bool} {f : Int → Hp → P → Prop} (hd : decode cc pc = .ok (.getfield i, 3)) (hh : xhas t0 k O nm ds fin 1 = true) (hl : Cond.fieldLink own i ref nm ds ∈ lw_all ∨ ∃ ho, Cond.fieldLinkNest own i ref nm ds ho ∈ lw_tbl) (hsame : ∀ x, (cx_s X).fieldFound? O nm ds = some x → (cx_s X).fieldFound? ref nm ds = some x)
    (k9 : ∀ v, GJ X nL (xWo g σ0 H0) Q (f v) (pc + 3) L (.long (iL v) :: st)) : GJ X nL (xWo g σ0 H0) Q (pbnd (xgI r t0 k) f) pc L (rv g r :: st) := by
  intro σ ⟨p, e, ht, q⟩ H locs cs ss ls w l
  subst e
  obtain ⟨_, _, _, _, hkd, h29⟩ := xhas_spec hh
  refine xj_get C E.1 hh ht hl hsame hd w.1 ?_
  rw [xval_l h29 hkd]
  exact k9 _ σ q H locs cs ss ls w l
theorem gx_gR (C : GC X nL cc own) (E : XE X g σ0) {t0 k i : Nat} {O nm ds ref : String} {fin : Bool} {f : Option Nat → Hp → P → Prop} (hd : decode cc pc = .ok (.getfield i, 3)) (hh : xhas t0 k O nm ds fin 2 = true) (hl : Cond.fieldLink own i ref nm ds ∈ lw_all ∨ ∃ ho, Cond.fieldLinkNest own i ref nm ds ho ∈ lw_tbl) (hsame : ∀ x, (cx_s X).fieldFound? O nm ds = some x → (cx_s X).fieldFound? ref nm ds = some x)
    (k9 : ∀ v, GJ X nL (xWo g σ0 H0) Q (f v) (pc + 3) L (rv g v :: st)) : GJ X nL (xWo g σ0 H0) Q (pbnd (xgR r t0 k) f) pc L (rv g r :: st) := by
  intro σ ⟨p, e, ht, q⟩ H locs cs ss ls w l
  subst e
  obtain ⟨_, _, _, _, hkd, h29⟩ := xhas_spec hh
  refine xj_get C E.1 hh ht hl hsame hd w.1 ?_
  rw [xval_r h29 hkd]
  exact k9 _ σ q H locs cs ss ls w l
theorem gx_gIs (C : GC X nL cc own) (E : XE X g σ0) {ts : List Nat} {k i : Nat} {O nm ds ref : String} {fin : Bool} {f : Int → Hp → P → Prop} (hd : decode cc pc = .ok (.getfield i, 3)) (hh : ts.all (fun t0 => xhas t0 k O nm ds fin 0) = true) (hl : Cond.fieldLink own i ref nm ds ∈ lw_all ∨ ∃ ho, Cond.fieldLinkNest own i ref nm ds ho ∈ lw_tbl) (hsame : ∀ x, (cx_s X).fieldFound? O nm ds = some x → (cx_s X).fieldFound? ref nm ds = some x)
    (k9 : ∀ v, GJ X nL (xWo g σ0 H0) Q (f v) (pc + 3) L (.int (iI v) :: st)) : GJ X nL (xWo g σ0 H0) Q (pbnd (xgIs r ts k) f) pc L (rv g r :: st) := by
  intro σ ⟨p, e, ht, q⟩ H locs cs ss ls w l
  exact gx_gI C E (r := r) hd (List.all_eq_true.mp hh _ ht) hl hsame k9 σ ⟨p, e, rfl, q⟩ H locs cs ss ls w l
theorem gx_gRs (C : GC X nL cc own) (E : XE X g σ0) {ts : List Nat} {k i : Nat} {O nm ds ref : String} {fin : Bool} {f : Option Nat → Hp → P → Prop} (hd : decode cc pc = .ok (.getfield i, 3)) (hh : ts.all (fun t0 => xhas t0 k O nm ds fin 2) = true) (hl : Cond.fieldLink own i ref nm ds ∈ lw_all ∨ ∃ ho, Cond.fieldLinkNest own i ref nm ds ho ∈ lw_tbl) (hsame : ∀ x, (cx_s X).fieldFound? O nm ds = some x → (cx_s X).fieldFound? ref nm ds = some x)
    (k9 : ∀ v, GJ X nL (xWo g σ0 H0) Q (f v) (pc + 3) L (rv g v :: st)) : GJ X nL (xWo g σ0 H0) Q (pbnd (xgRs r ts k) f) pc L (rv g r :: st) := by
  intro σ ⟨p, e, ht, q⟩ H locs cs ss ls w l
  exact gx_gR C E (r := r) hd (List.all_eq_true.mp hh _ ht) hl hsame k9 σ ⟨p, e, rfl, q⟩ H locs cs ss ls w l
/-- the world behind a write at p -/
theorem xS_put {g : XG} {H0 H H1 : Heap} {locs : List Loc} {p i : Nat} (hS : va_S (xA g) H0 H locs) (e2 : H1.size = H.size) (e3 : ∀ q, q ≠ g.2.2.1 + p → H1[q]? = H[q]?) : va_S (xA g) H0 H1 (locs ++ [⟨g.2.2.1 + p, i⟩]) := hS.put e2 e3 (Nat.le_add_right _ _)
/-- the machine's part of writing a field -/
theorem xj_put (C : GC X nL cc own) (E : XE X g σ0) {p t0 k i : Nat} {O nm ds ref : String} {fin : Bool} {kd : Nat} {σ σ' : Hp} {H : Heap} {locs : List Loc} {cs ss : Nat} {ls : Array Slot} {v : Value} {ty : FieldType} (hh : xhas t0 k O nm ds fin kd = true) (ht : h_tg σ p = t0)
    (hlink : Cond.fieldLink own i ref nm ds ∈ lw_all ∨ ∃ ho, Cond.fieldLinkNest own i ref nm ds ho ∈ lw_tbl) (hsame : ∀ x, (cx_s X).fieldFound? O nm ds = some x → (cx_s X).fieldFound? ref nm ds = some x) (hfin : fin = true → (cx_y X).name = "<init>" ∧ O = own) (hty : parseFieldDescriptor ds = some ty) (hn : narrow ty v = v) (hf : fits ty v = true) (hd : decode cc pc = .ok (.putfield i, 3))
    (htg : h_tg σ' = h_tg σ) (hln : h_ln σ' = h_ln σ) (hnx : h_nx σ' = h_nx σ) (hus : h_us σ' = h_us σ) (hI : ∀ q, q ≠ p → h_I σ' q = h_I σ q) (hR : ∀ q, q ≠ p → h_R σ' q = h_R σ q) (hv : xval g t0 (h_I σ' p) (h_R σ' p) k = v) (ho : ∀ j, j ≠ k → xval g t0 (h_I σ' p) (h_R σ' p) j = xval g t0 (h_I σ p) (h_R σ p) j)
    (w : xWo g σ0 H0 σ H locs cs ss) (l : lv_has ls nL L) (kk : GV X nL (xWo g σ0 H0) σ' (pc + 3) L st) :
    W (cx_p X) (cx_l X) (cx_e X) (cx_R X) (cx_s X) (cx_m X) (cx_a X) (cx_b X) (cx_y X) (cx_c X) H locs cs ss (cx_q X) (F0 (cx_m X) pc ls (v :: rv g (some p) :: st)) := by
  obtain ⟨w, hS, hc, hs, hn0, hu0, hz0⟩ := w
  obtain ⟨K, -⟩ := E
  obtain ⟨r, hr, hk, hT, -, h29⟩ := xhas_spec hh
  obtain ⟨e, hp, cell, h1, h2, h3, h4, h5⟩ := w.obj ht h29
  obtain ⟨cf, kf, fi, fd, hi, he, hst⟩ := xfld C.2.2.2.2.2 K hr hk
  have hap := xap C.2.2.2.2.2 K hr
  obtain ⟨hSl, hfc, kC, hkC, hkind⟩ := K.1.1 t0 r hr
  have hlay := C.2.2.2.2.2 _ (xin t0 r hr _ (u_in_lay hk))
  unfold u_lay at hlay
  rw [hT] at hi hlay
  rw [xnum hr] at hap hk
  have hlt : fd.slot < cell.slots.size := by rw [he]; exact k2_hasslot (h5 k hk)
  have fin9 : ∀ H' : Heap, H'[g.2.2.1 + p]? = some (cell.setSlot fd.slot v) → H'.size = H.size → (∀ q, q ≠ g.2.2.1 + p → H'[q]? = H[q]?) → W (cx_p X) (cx_l X) (cx_e X) (cx_R X) (cx_s X) (cx_m X) (cx_a X) (cx_b X) (cx_y X) (cx_c X) H' (locs ++ [⟨g.2.2.1 + p, fd.slot⟩]) cs ss (cx_q X) (F0 (cx_m X) (pc + 3) ls st) := by
    intro H' e1 e2 e3
    rw [he] at e1
    refine kk H' _ cs ss ls ⟨w.put hp htg hln hnx hus hI hR h1 e1 e2 e3 (fun _ => ?_), xS_put hS e2 e3, by rw [hnx]; exact hc, by rw [hus]; exact hs, by rw [hnx]; exact hn0, by rw [hus]; exact hu0, by rw [htg, hln]; exact hz0⟩ l
    unfold XCellA
    rw [htg, ht, xcid_o h29, xis_o h29, xsz_o h29]
    exact XAt.set h2 h3 h4 h5 hap hk e1 hv (fun j _ hj => ho j hj)
  show W _ _ _ _ _ _ _ _ _ _ _ _ _ _ _ (F0 _ pc ls (v :: .ref (real g p) :: st))
  rw [e]
  cases fin with
  | false =>
    rw [if_neg (by simp)] at hlay
    have h6 := u_store hfc hkC hkind hlay hi hty hn hf
    rcases hlink with hl | ⟨hst2, hl⟩
    · exact W.putK C.1 C.2.1 (f := fd) ⟨C.2.2.2.2.1, C.2.2.2.2.2 _ hl, ⟨_, _, _, hsame _ hi⟩, hst⟩ (by rw [h2]; exact h6) h1 h3 hlt rfl rfl hd fin9
    · exact va_WputK C.1 C.2.1 C.2.2.2.2.1 (va_Nw.use rfl (K.2.1 _ hl rfl)) (hsame _ hi) hst (by rw [h2]; exact h6) h1 h3 hlt rfl rfl hd fin9
  | true =>
    rw [if_pos rfl] at hlay
    obtain ⟨hnm, hO⟩ := hfin rfl
    have hcf : (cx_m X).cls = cf := by
      obtain ⟨_, _, c', _, _, _, -, -, hf', -, -, -, hown2, -⟩ := Cond.laysFinal_spec hlay
      have e1 : c' = cf := by have := hi.symm.trans hf'; simp at this; exact this.1.symm
      rw [hO] at hown2
      rw [← e1]; exact Option.some.inj (C.2.2.2.2.1.symm.trans hown2)
    have h6 := u_fits hfc hkC hkind (Or.inr hlay) hi hty hn hf
    rcases hlink with hl | ⟨hst2, hl⟩
    · exact W.putFinK C.1 C.2.1 C.2.2.2.2.1 (C.2.2.2.2.2 _ hl) (hsame _ hi) hst hcf hnm (by rw [h2]; exact h6) h1 h3 hlt rfl rfl hd fin9
    · refine va_Wputf C.1 C.2.1 C.2.2.2.2.1 (va_Nw.use rfl (K.2.1 _ hl rfl)) (hsame _ hi) hst (Or.inr ⟨hcf, hnm⟩) h1 (by rw [h3]; exact fun h => by cases h) hlt h6.1 (by rw [h2, h3]; exact h6.2) rfl rfl hd ?_
      have ha : g.2.2.1 + p < H.size := (Array.getElem?_eq_some_iff.mp h1).1
      refine fin9 _ ?_ ?_ ?_
      · simp [Array.getElem?_setIfInBounds, ha]
      · simp
      · intro q hq
        simp [Array.getElem?_setIfInBounds, Ne.symm hq]
theorem xval_I_ne {g : XG} {t k j : Nat} {f : Nat → Nat → Int} {R : Nat → Option Nat} {p : Nat} {v : Int} (h : j ≠ k) : xval g t (up2 f p k v p) R j = xval g t (f p) R j := by
  unfold xval; rw [up2_col h]
theorem xval_R_ne {g : XG} {t k j : Nat} {I : Nat → Int} {f : Nat → Nat → Option Nat} {p : Nat} {v : Option Nat} (h : j ≠ k) : xval g t I (upR f p k v p) j = xval g t I (f p) j := by
  unfold xval; rw [upR_col h]
theorem fit_rv {g : XG} {r : Option Nat} {ty : FieldType} (h : ty.isReference = true) : narrow ty (rv g r) = rv g r ∧ fits ty (rv g r) = true := by
  cases ty <;> first | (cases r <;> exact ⟨rfl, rfl⟩) | (exfalso; revert h; decide)
/-- a number of a field's type: as it is -/
def inty (ty : FieldType) (v : Int) : Prop := narrow ty (.int (iI v)) = .int (iI v) ∧ fits ty (.int (iI v)) = true
theorem inty_int (v : Int) : inty .int v := ⟨rfl, rfl⟩
theorem inty_z {v : Int} (h : v = 0 ∨ v = 1) : inty .boolean v := by
  rcases h with h | h <;> subst h <;> exact ⟨by decide, by decide⟩
theorem gx_pI (C : GC X nL cc own) (E : XE X g σ0) {t0 k i : Nat} {O nm ds ref : String} {fin : Bool} {f : Unit → Hp → P → Prop} {ty : FieldType} (hd : decode cc pc = .ok (.putfield i, 3)) (hh : xhas t0 k O nm ds fin 0 = true) (hl : Cond.fieldLink own i ref nm ds ∈ lw_all ∨ ∃ ho, Cond.fieldLinkNest own i ref nm ds ho ∈ lw_tbl) (hsame : ∀ x, (cx_s X).fieldFound? O nm ds = some x → (cx_s X).fieldFound? ref nm ds = some x) (hfin : fin = true → (cx_y X).name = "<init>" ∧ O = own) (hty : parseFieldDescriptor ds = some ty) (hv : inty ty b)
    (k9 : GJ X nL (xWo g σ0 H0) Q (f ()) (pc + 3) L st) : GJ X nL (xWo g σ0 H0) Q (pbnd (xpI r t0 k b) f) pc L (.int (iI b) :: rv g r :: st) := by
  intro σ ⟨p, e, ht, q⟩ H locs cs ss ls w l
  subst e
  obtain ⟨_, _, _, _, hkd, h29⟩ := xhas_spec hh
  exact xj_put C E (σ' := setI σ p k b) hh ht hl hsame hfin hty hv.1 hv.2 hd rfl rfl rfl rfl (fun q hq => up2_row hq) (fun _ _ => rfl) (by rw [xval_i h29 hkd]; show Value.int (iI (up2 _ p k b p k)) = _; rw [up2_self]) (fun j hj => xval_I_ne hj) w l (k9 _ q)
theorem gx_pL (C : GC X nL cc own) (E : XE X g σ0) {t0 k i : Nat} {O nm ds ref : String} {fin : Bool} {f : Unit → Hp → P → Prop} (hd : decode cc pc = .ok (.putfield i, 3)) (hh : xhas t0 k O nm ds fin 1 = true) (hl : Cond.fieldLink own i ref nm ds ∈ lw_all ∨ ∃ ho, Cond.fieldLinkNest own i ref nm ds ho ∈ lw_tbl) (hsame : ∀ x, (cx_s X).fieldFound? O nm ds = some x → (cx_s X).fieldFound? ref nm ds = some x) (hfin : fin = true → (cx_y X).name = "<init>" ∧ O = own) (hty : parseFieldDescriptor ds = some .long)
    (k9 : GJ X nL (xWo g σ0 H0) Q (f ()) (pc + 3) L st) : GJ X nL (xWo g σ0 H0) Q (pbnd (xpI r t0 k b) f) pc L (.long (iL b) :: rv g r :: st) := by
  intro σ ⟨p, e, ht, q⟩ H locs cs ss ls w l
  subst e
  obtain ⟨_, _, _, _, hkd, h29⟩ := xhas_spec hh
  exact xj_put C E (σ' := setI σ p k b) hh ht hl hsame hfin hty rfl rfl hd rfl rfl rfl rfl (fun q hq => up2_row hq) (fun _ _ => rfl) (by rw [xval_l h29 hkd]; show Value.long (iL (up2 _ p k b p k)) = _; rw [up2_self]) (fun j hj => xval_I_ne hj) w l (k9 _ q)
theorem gx_pR (C : GC X nL cc own) (E : XE X g σ0) {t0 k i : Nat} {O nm ds ref : String} {fin : Bool} {f : Unit → Hp → P → Prop} {ty : FieldType} (hd : decode cc pc = .ok (.putfield i, 3)) (hh : xhas t0 k O nm ds fin 2 = true) (hl : Cond.fieldLink own i ref nm ds ∈ lw_all ∨ ∃ ho, Cond.fieldLinkNest own i ref nm ds ho ∈ lw_tbl) (hsame : ∀ x, (cx_s X).fieldFound? O nm ds = some x → (cx_s X).fieldFound? ref nm ds = some x) (hfin : fin = true → (cx_y X).name = "<init>" ∧ O = own) (hty : parseFieldDescriptor ds = some ty) (hre : ty.isReference = true)
    (k9 : GJ X nL (xWo g σ0 H0) Q (f ()) (pc + 3) L st) : GJ X nL (xWo g σ0 H0) Q (pbnd (xpR r t0 k q) f) pc L (rv g q :: rv g r :: st) := by
  intro σ ⟨p, e, ht, q⟩ H locs cs ss ls w l
  subst e
  obtain ⟨_, _, _, _, hkd, h29⟩ := xhas_spec hh
  exact xj_put C E (σ' := setR σ p k _) hh ht hl hsame hfin hty (fit_rv hre).1 (fit_rv hre).2 hd rfl rfl rfl rfl (fun _ _ => rfl) (fun q hq => upR_row hq) (by rw [xval_r h29 hkd]; show rv g (upR _ p k _ p k) = _; rw [upR_self]) (fun j hj => xval_R_ne hj) w l (k9 _ q)
theorem gx_pIs (C : GC X nL cc own) (E : XE X g σ0) {ts : List Nat} {k i : Nat} {O nm ds ref : String} {fin : Bool} {f : Unit → Hp → P → Prop} {ty : FieldType} (hd : decode cc pc = .ok (.putfield i, 3)) (hh : ts.all (fun t0 => xhas t0 k O nm ds fin 0) = true) (hl : Cond.fieldLink own i ref nm ds ∈ lw_all ∨ ∃ ho, Cond.fieldLinkNest own i ref nm ds ho ∈ lw_tbl) (hsame : ∀ x, (cx_s X).fieldFound? O nm ds = some x → (cx_s X).fieldFound? ref nm ds = some x) (hfin : fin = true → (cx_y X).name = "<init>" ∧ O = own) (hty : parseFieldDescriptor ds = some ty) (hv : inty ty b)
    (k9 : GJ X nL (xWo g σ0 H0) Q (f ()) (pc + 3) L st) : GJ X nL (xWo g σ0 H0) Q (pbnd (xpIs r ts k b) f) pc L (.int (iI b) :: rv g r :: st) := by
  intro σ ⟨p, e, ht, q⟩ H locs cs ss ls w l
  exact gx_pI C E (r := r) hd (List.all_eq_true.mp hh _ ht) hl hsame hfin hty hv k9 σ ⟨p, e, rfl, q⟩ H locs cs ss ls w l
theorem gx_pRs (C : GC X nL cc own) (E : XE X g σ0) {ts : List Nat} {k i : Nat} {O nm ds ref : String} {fin : Bool} {f : Unit → Hp → P → Prop} {ty : FieldType} (hd : decode cc pc = .ok (.putfield i, 3)) (hh : ts.all (fun t0 => xhas t0 k O nm ds fin 2) = true) (hl : Cond.fieldLink own i ref nm ds ∈ lw_all ∨ ∃ ho, Cond.fieldLinkNest own i ref nm ds ho ∈ lw_tbl) (hsame : ∀ x, (cx_s X).fieldFound? O nm ds = some x → (cx_s X).fieldFound? ref nm ds = some x) (hfin : fin = true → (cx_y X).name = "<init>" ∧ O = own) (hty : parseFieldDescriptor ds = some ty) (hre : ty.isReference = true)
    (k9 : GJ X nL (xWo g σ0 H0) Q (f ()) (pc + 3) L st) : GJ X nL (xWo g σ0 H0) Q (pbnd (xpRs r ts k q) f) pc L (rv g q :: rv g r :: st) := by
  intro σ ⟨p, e, ht, q⟩ H locs cs ss ls w l
  exact gx_pR C E (r := r) hd (List.all_eq_true.mp hh _ ht) hl hsame hfin hty hre k9 σ ⟨p, e, rfl, q⟩ H locs cs ss ls w l
end XROWS
