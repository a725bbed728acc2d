/-! THE COMPONENT's ROWS, on: arrays, what is made, casts, ends, calls. -/
theorem xval_ai {g : XG} {t k : Nat} {I : Nat → Int} {R : Nat → Option Nat} (h : t = 0 ∨ t = 2 ∨ t = 3) : xval g (40 + t) I R k = .int (iI (I k)) := by
  rcases h with h | h | h <;> subst h <;> rfl
theorem xval_al {g : XG} {k : Nat} {I : Nat → Int} {R : Nat → Option Nat} : xval g 41 I R k = .long (iL (I k)) := rfl
theorem xval_ar {g : XG} {t k : Nat} {I : Nat → Int} {R : Nat → Option Nat} (h : 4 ≤ t) : xval g (40 + t) I R k = rv g (R k) := by
  unfold xval xkd
  rw [if_neg (by omega), if_neg (by omega), if_pos (by omega)]
  rfl
theorem x_oob {n : Nat} {z : Int} {cell : Cell} (h : 0 ≤ w32 z ∧ w32 z < n) (hs : cell.slots.size = n) : ¬ (iI z < 0 ∨ cell.slots.size ≤ (iI z).toNatClampNeg) := by
  rw [hs]; exact vp_in_w h
theorem x_lt {n : Nat} {z : Int} (h : 0 ≤ w32 z ∧ w32 z < n) : (w32 z).toNat < n := by omega
section XROWS2
variable {P : Type} {X : Cx} {g : XG} {nL : Nat} {σ0 : Hp} {H0 : Heap} {Q : P} {cc : ByteArray} {own : String} {pc : Nat} {L L' : List (Nat × Value)} {st : List Value} {a b : Int} {r q : Option Nat} {t : Hp → P → Prop}
theorem gx_iald (C : GC X nL cc own) (E : XE X g σ0) {f : Int → Hp → P → Prop} (hd : decode cc pc = .ok (.iaload, 1)) (k9 : ∀ v, GJ X nL (xWo g σ0 H0) Q (f v) (pc + 1) L (.int (iI v) :: st)) : GJ X nL (xWo g σ0 H0) Q (pbnd (xld r 40 a) f) pc L (.int (iI a) :: rv g r :: st) := by
  intro σ ⟨p, e, ht, hin, q⟩ H locs cs ss ls w l
  subst e
  obtain ⟨e, -, cell, h1, h2, h3, h4, h5⟩ := w.1.arr (t := 0) ht (by decide)
  show W _ _ _ _ _ _ _ _ _ _ _ _ _ _ _ (F0 _ pc ls (.int (iI a) :: .ref (real g p) :: st))
  rw [e]
  exact W.iald C.1 C.2.1 h1 (x_isArr (E.1.1.2 0 _ rfl).1 h2 h3) (by rw [h3]; exact fun z => by cases z) (x_oob hin h4) (h5 _ (x_lt hin)) rfl rfl hd (k9 _ σ q H locs cs ss ls w l)
theorem gx_bald (C : GC X nL cc own) (E : XE X g σ0) {f : Int → Hp → P → Prop} (hd : decode cc pc = .ok (.baload, 1)) (k9 : ∀ v, GJ X nL (xWo g σ0 H0) Q (f v) (pc + 1) L (.int (iI v) :: st)) : GJ X nL (xWo g σ0 H0) Q (pbnd (xld r 43 a) f) pc L (.int (iI a) :: rv g r :: st) := by
  intro σ ⟨p, e, ht, hin, q⟩ H locs cs ss ls w l
  subst e
  obtain ⟨e, -, cell, h1, h2, h3, h4, h5⟩ := w.1.arr (t := 3) ht (by decide)
  show W _ _ _ _ _ _ _ _ _ _ _ _ _ _ _ (F0 _ pc ls (.int (iI a) :: .ref (real g p) :: st))
  rw [e]
  exact W.bald C.1 C.2.1 h1 (x_isArr (E.1.1.2 3 _ rfl).1 h2 h3) (by rw [h3]; exact fun z => by cases z) (x_oob hin h4) (h5 _ (x_lt hin)) rfl rfl hd (k9 _ σ q H locs cs ss ls w l)
theorem gx_lald (C : GC X nL cc own) (E : XE X g σ0) {f : Int → Hp → P → Prop} (hd : decode cc pc = .ok (.laload, 1)) (k9 : ∀ v, GJ X nL (xWo g σ0 H0) Q (f v) (pc + 1) L (.long (iL v) :: st)) : GJ X nL (xWo g σ0 H0) Q (pbnd (xld r 41 a) f) pc L (.int (iI a) :: rv g r :: st) := by
  intro σ ⟨p, e, ht, hin, q⟩ H locs cs ss ls w l
  subst e
  obtain ⟨e, -, cell, h1, h2, h3, h4, h5⟩ := w.1.arr (t := 1) ht (by decide)
  show W _ _ _ _ _ _ _ _ _ _ _ _ _ _ _ (F0 _ pc ls (.int (iI a) :: .ref (real g p) :: st))
  rw [e]
  exact W.lald C.1 C.2.1 h1 (x_isArr (E.1.1.2 1 _ rfl).1 h2 h3) (by rw [h3]; exact fun z => by cases z) (x_oob hin h4) (h5 _ (x_lt hin)) rfl rfl hd (k9 _ σ q H locs cs ss ls w l)
theorem gx_aald (C : GC X nL cc own) (E : XE X g σ0) {f : Option Nat → Hp → P → Prop} {t0 : Nat} {ty : FieldType} (hd : decode cc pc = .ok (.aaload, 1)) (h8 : t0 < 8) (h4' : 4 ≤ t0) (hty : (xtyL g)[t0]? = some (g.2.1 t0, ty)) (hre : ty.isReference = true) (k9 : ∀ v, GJ X nL (xWo g σ0 H0) Q (f v) (pc + 1) L (rv g v :: st)) : GJ X nL (xWo g σ0 H0) Q (pbnd (xldR r (40 + t0) a) f) pc L (.int (iI a) :: rv g r :: st) := by
  intro σ ⟨p, e, ht, hin, q⟩ H locs cs ss ls w l
  subst e
  obtain ⟨e, -, cell, h1, h2, h3, h4, h5⟩ := w.1.arr ht h8
  show W _ _ _ _ _ _ _ _ _ _ _ _ _ _ _ (F0 _ pc ls (.int (iI a) :: .ref (real g p) :: st))
  rw [e]
  have hv := h5 _ (x_lt hin)
  rw [xval_ar h4'] at hv
  exact W.aald C.1 C.2.1 h1 (x_isArr (E.1.1.2 t0 _ hty).1 h2 h3) hre (by rw [h3]; exact fun z => by cases z) (x_oob hin h4) hv rfl rfl hd (k9 _ σ q H locs cs ss ls w l)
theorem gx_len (C : GC X nL cc own) (E : XE X g σ0) {f : Int → Hp → P → Prop} (hd : decode cc pc = .ok (.arraylength, 1)) (k9 : ∀ v, GJ X nL (xWo g σ0 H0) Q (f v) (pc + 1) L (.int (iI v) :: st)) : GJ X nL (xWo g σ0 H0) Q (pbnd (xlen r) f) pc L (rv g r :: st) := by
  intro σ ⟨p, e, ht, q⟩ H locs cs ss ls w l
  subst e
  obtain ⟨t0, ht0⟩ : ∃ t0, h_tg σ p = 40 + t0 := ⟨h_tg σ p - 40, by omega⟩
  have h8 : t0 < 8 := by omega
  obtain ⟨e, -, cell, h1, h2, h3, h4, h5⟩ := w.1.arr ht0 h8
  have hq : ∃ ty, (xtyL g)[t0]? = some (g.2.1 t0, ty) := by
    match t0, h8 with
    | 0, _ | 1, _ | 2, _ | 3, _ | 4, _ | 5, _ | 6, _ | 7, _ => exact ⟨_, rfl⟩
  obtain ⟨ty, hty⟩ := hq
  show W _ _ _ _ _ _ _ _ _ _ _ _ _ _ _ (F0 _ pc ls (.ref (real g p) :: st))
  rw [e]
  exact W.alen (n := iI (h_ln σ p)) C.1 C.2.1 h1 (x_isArr (E.1.1.2 t0 _ hty).1 h2 h3) (by rw [h4]; exact Int32.ofInt_eq_ofNat.symm) rfl rfl hd (k9 _ σ q H locs cs ss ls w l)
/-- the world behind a write into an array -/
theorem xWo_arr {σ σ' : Hp} {H H1 : Heap} {locs : List Loc} {cs ss p t0 : Nat} {z : Int} {v : Value} {cell : Cell} (w : xWo g σ0 H0 σ H locs cs ss) (ht : h_tg σ p = 40 + t0) (h8 : t0 < 8) (hin : 0 ≤ w32 z ∧ w32 z < h_ln σ p) (h1 : H[g.2.2.1 + p]? = some cell) (htg : h_tg σ' = h_tg σ) (hln : h_ln σ' = h_ln σ) (hnx : h_nx σ' = h_nx σ) (hus : h_us σ' = h_us σ)
    (hI : ∀ q, q ≠ p → h_I σ' q = h_I σ q) (hR : ∀ q, q ≠ p → h_R σ' q = h_R σ q) (hv : xval g (40 + t0) (h_I σ' p) (h_R σ' p) (w32 z).toNat = v) (ho : ∀ j, j ≠ (w32 z).toNat → xval g (40 + t0) (h_I σ' p) (h_R σ' p) j = xval g (40 + t0) (h_I σ p) (h_R σ p) j)
    (e1 : H1[g.2.2.1 + p]? = some (cell.setSlot (iI z).toNatClampNeg v)) (e2 : H1.size = H.size) (e3 : ∀ q, q ≠ g.2.2.1 + p → H1[q]? = H[q]?) : xWo g σ0 H0 σ' H1 (locs ++ [⟨g.2.2.1 + p, (iI z).toNatClampNeg⟩]) cs ss := by
  obtain ⟨w, hS, hc, hs, hn0, hu0, hz0⟩ := w
  obtain ⟨-, hp, cell', g1, g2, g3, g4, g5⟩ := w.arr ht h8
  cases h1.symm.trans g1
  refine ⟨w.put hp htg hln hnx hus hI hR h1 e1 e2 e3 (fun _ => ?_), xS_put hS e2 e3, by rw [hnx]; exact hc, by rw [hus]; exact hs, by rw [hnx]; exact hn0, by rw [hus]; exact hu0, by rw [htg, hln]; exact hz0⟩
  unfold XCellA
  rw [htg, ht, xcid_a, xis_a, xsz_a, hln]
  exact XAt.set (k := (w32 z).toNat) g2 g3 g4 g5 (fun _ _ _ _ h => h) (x_lt hin) e1 hv (fun j _ hj => ho j hj)
theorem gx_iast (C : GC X nL cc own) (E : XE X g σ0) {f : Unit → Hp → P → Prop} (hd : decode cc pc = .ok (.iastore, 1)) (k9 : GJ X nL (xWo g σ0 H0) Q (f ()) (pc + 1) L st) : GJ X nL (xWo g σ0 H0) Q (pbnd (xst r 40 a b) f) pc L (.int (iI b) :: .int (iI a) :: rv g r :: st) := by
  intro σ ⟨p, e, ht, hin, q⟩ H locs cs ss ls w l
  subst e
  obtain ⟨e, -, cell, h1, h2, h3, h4, h5⟩ := w.1.arr (t := 0) ht (by decide)
  show W _ _ _ _ _ _ _ _ _ _ _ _ _ _ _ (F0 _ pc ls (.int (iI b) :: .int (iI a) :: .ref (real g p) :: st))
  rw [e]
  refine W.iast C.1 C.2.1 h1 (x_isArr (E.1.1.2 0 _ rfl).1 h2 h3) (by rw [h3]; exact fun z => by cases z) (x_oob hin h4) rfl rfl hd (fun H' e1 e2 e3 => ?_)
  refine k9 _ q H' _ cs ss ls (xWo_arr (σ' := setI σ p (w32 a).toNat b) w (t0 := 0) ht (by decide) hin h1 rfl rfl rfl rfl (fun q hq => up2_row hq) (fun _ _ => rfl) ?_ (fun j hj => xval_I_ne hj) e1 e2 e3) l
  show Value.int (iI (up2 _ p _ b p _)) = _
  rw [up2_self]
theorem gx_last (C : GC X nL cc own) (E : XE X g σ0) {f : Unit → Hp → P → Prop} (hd : decode cc pc = .ok (.lastore, 1)) (k9 : GJ X nL (xWo g σ0 H0) Q (f ()) (pc + 1) L st) : GJ X nL (xWo g σ0 H0) Q (pbnd (xst r 41 a b) f) pc L (.long (iL b) :: .int (iI a) :: rv g r :: st) := by
  intro σ ⟨p, e, ht, hin, q⟩ H locs cs ss ls w l
  subst e
  obtain ⟨e, -, cell, h1, h2, h3, h4, h5⟩ := w.1.arr (t := 1) ht (by decide)
  show W _ _ _ _ _ _ _ _ _ _ _ _ _ _ _ (F0 _ pc ls (.long (iL b) :: .int (iI a) :: .ref (real g p) :: st))
  rw [e]
  refine W.last C.1 C.2.1 h1 (x_isArr (E.1.1.2 1 _ rfl).1 h2 h3) (by rw [h3]; exact fun z => by cases z) (x_oob hin h4) rfl rfl hd (fun H' e1 e2 e3 => ?_)
  refine k9 _ q H' _ cs ss ls (xWo_arr (σ' := setI σ p (w32 a).toNat b) w (t0 := 1) ht (by decide) hin h1 rfl rfl rfl rfl (fun q hq => up2_row hq) (fun _ _ => rfl) ?_ (fun j hj => xval_I_ne hj) e1 e2 e3) l
  show Value.long (iL (up2 _ p _ b p _)) = _
  rw [up2_self]
/-- bastore: the byte that is kept is zi2b b -/
theorem gx_bast (C : GC X nL cc own) (E : XE X g σ0) {f : Unit → Hp → P → Prop} (hd : decode cc pc = .ok (.bastore, 1)) (k9 : GJ X nL (xWo g σ0 H0) Q (f ()) (pc + 1) L st) : GJ X nL (xWo g σ0 H0) Q (pbnd (xst r 43 a (zi2b b)) f) pc L (.int (iI b) :: .int (iI a) :: rv g r :: st) := by
  intro σ ⟨p, e, ht, hin, q⟩ H locs cs ss ls w l
  subst e
  obtain ⟨e, -, cell, h1, h2, h3, h4, h5⟩ := w.1.arr (t := 3) ht (by decide)
  show W _ _ _ _ _ _ _ _ _ _ _ _ _ _ _ (F0 _ pc ls (.int (iI b) :: .int (iI a) :: .ref (real g p) :: st))
  rw [e]
  refine W.bast C.1 C.2.1 h1 (x_isArr (E.1.1.2 3 _ rfl).1 h2 h3) (by rw [h3]; exact fun z => by cases z) (x_oob hin h4) rfl rfl hd (fun H' e1 e2 e3 => ?_)
  refine k9 _ q H' _ cs ss ls (xWo_arr (σ' := setI σ p (w32 a).toNat (zi2b b)) w (t0 := 3) ht (by decide) hin h1 rfl rfl rfl rfl (fun q hq => up2_row hq) (fun _ _ => rfl) ?_ (fun j hj => xval_I_ne hj) e1 e2 e3) l
  show Value.int (iI (up2 _ p _ (zi2b b) p _)) = narrow .byte (.int (iI b))
  rw [up2_self, zi2b, iI_toInt]
  rfl
/-- aastore of null, or of an object whose class the tables say castable -/
theorem gx_aast (C : GC X nL cc own) (E : XE X g σ0) {f : Unit → Hp → P → Prop} {t0 : Nat} {EN : String} (hd : decode cc pc = .ok (.aastore, 1)) (h8 : t0 < 8) (h4' : 4 ≤ t0) (hty : (xtyL g)[t0]? = some (g.2.1 t0, .object EN)) (hcast : ∀ t1 r1, xelt (40 + t0) t1 → xcl[t1]? = some r1 → Cond.castable r1.1 EN ∈ lw_tbl ∨ r1.1 = EN) (hlt : ∀ t1, xelt (40 + t0) t1 → t1 < 29)
    (k9 : GJ X nL (xWo g σ0 H0) Q (f ()) (pc + 1) L st) : GJ X nL (xWo g σ0 H0) Q (pbnd (xstR r (40 + t0) a q) f) pc L (rv g q :: .int (iI a) :: rv g r :: st) := by
  intro σ ⟨p, e, ht, hin, hel, hq⟩ H locs cs ss ls w l
  subst e
  obtain ⟨e, -, cell, h1, h2, h3, h4, h5⟩ := w.1.arr ht h8
  have fin9 : ∀ H' : Heap, H'[g.2.2.1 + p]? = some (cell.setSlot (iI a).toNatClampNeg (rv g q)) → H'.size = H.size → (∀ z, z ≠ g.2.2.1 + p → H'[z]? = H[z]?) → W (cx_p X) (cx_l X) (cx_e X) (cx_R X) (cx_s X) (cx_m X) (cx_a X) (cx_b X) (cx_y X) (cx_c X) H' (locs ++ [⟨g.2.2.1 + p, (iI a).toNatClampNeg⟩]) cs ss (cx_q X) (F0 (cx_m X) (pc + 1) ls st) := by
    intro H' e1 e2 e3
    refine k9 _ hq H' _ cs ss ls (xWo_arr (σ' := setR σ p (w32 a).toNat q) w ht h8 hin h1 rfl rfl rfl rfl (fun _ _ => rfl) (fun q hq => upR_row hq) ?_ (fun j hj => xval_R_ne hj) e1 e2 e3) l
    rw [xval_ar h4']
    show rv g (upR _ p _ q p _) = _
    rw [upR_self]
  show W _ _ _ _ _ _ _ _ _ _ _ _ _ _ _ (F0 _ pc ls (rv g q :: .int (iI a) :: .ref (real g p) :: st))
  rw [e]
  have hA := x_isArr (E.1.1.2 t0 _ hty).1 h2 h3
  cases q with
  | none => exact va_WaastN C.1 C.2.1 h1 hA (by rw [h3]; exact fun z => by cases z) (x_oob hin h4) rfl rfl hd fin9
  | some v =>
    have hv := hel v rfl
    have h29 := hlt _ hv
    obtain ⟨ev, hpv, cv, v1, v2, v3, v4, v5⟩ := w.1.obj rfl h29
    obtain ⟨r1, hr1⟩ : ∃ r1, xcl[h_tg σ v]? = some r1 := ⟨_, List.getElem?_eq_getElem h29⟩
    obtain ⟨-, hfc, kC, hkC, hkind⟩ := E.1.1.1 _ r1 hr1
    obtain ⟨kA, comp, a1, a2, a3, a4⟩ := (E.1.1.2 t0 _ hty).2
    have hbd := vp_in_w hin
    have hkc : ∃ kc : Class, (cx_s X).vm.classes[comp]? = some kc := by
      obtain ⟨kc, z, -⟩ := Vm.findClass_spec a3
      exact ⟨kc, z⟩
    obtain ⟨kc, hkc⟩ := hkc
    have hasg : (cx_s X).vm.assignable cv.cls comp = true := by
      rw [v2]
      rcases hcast _ r1 hv hr1 with hw | hw
      · obtain ⟨c3, c4, hc3, hc4, has⟩ := Cond.castable_spec (va_Nw.use (A := cx_a X) rfl (E.1.2.1 _ hw rfl))
        cases Option.some.inj (hc3.symm.trans hfc)
        cases Option.some.inj (hc4.symm.trans a3)
        exact has
      · rw [hw] at hfc
        cases Option.some.inj (hfc.symm.trans a3)
        exact va_asg _ _
    refine W.aast C.1 C.2.1 h1 (fun z => by rw [h3]; exact fun y => by cases y) (by rw [h3]; exact fun z => by cases z) (by rw [h2]; exact a1) a2 rfl hkc ⟨fun z => hbd (Or.inl z), by rw [h4]; exact x_lt hin⟩ (show H[real g v]? = some cv by rw [ev]; exact v1) (fun z => by rw [v3]; exact fun y => by cases y) (by rw [v2]; exact hkC) hasg rfl rfl hd fin9
/-! what is made -/
theorem sumTo_congr {f h : Nat → Nat} {n : Nat} (e : ∀ i, i < n → f i = h i) : sumTo f n = sumTo h n := by
  induction n with
  | zero => rfl
  | succ n ih => simp only [sumTo]; rw [ih (fun i hi => e i (by omega)), e n (by omega)]
theorem XWd.new {g : XG} {σ : Hp} {H H1 : Heap} {t0 n s0 : Nat} {cell : Cell} (w : XWd g σ H) (ht0 : t0 ≠ 29 ∧ t0 ≠ 48) (hn : h_nx σ < CAPN) (hu : h_us σ + s0 ≤ CAPS) (hs : xsz t0 n = s0) (e1 : H1[H.size]? = some cell) (e2 : H1.size = H.size + 1) (e3 : ∀ q, q < H.size → H1[q]? = H[q]?) (hsz : cell.slots.size = s0) (hpl : Pl cell)
    (hx : live t0 → XAt H1 H.size (xcid g t0) (xsz t0 n) (xis g t0) (xval g t0 (fun _ => 0) (fun _ => none))) : XWd g (newC σ t0 n s0) H1 := by
  obtain ⟨w1, w2, w3, w4, w5, w6, w7⟩ := w
  have tg : ∀ p, h_tg (newC σ t0 n s0) p = if p = h_nx σ then t0 else h_tg σ p := fun p => rfl
  have ln : ∀ p, h_ln (newC σ t0 n s0) p = if p = h_nx σ then n else h_ln σ p := fun p => rfl
  refine ⟨by rw [e2, w1]; rfl, hn, hu, fun p hp => ?_, fun p hp => ?_, ?_, ?_⟩
  · by_cases e : p = h_nx σ
    · subst e
      refine ⟨Nat.lt_succ_self _, ?_, cell, by rw [← w1]; exact e1, hpl⟩
      rw [tg, if_pos rfl] at hp
      have h9 := hx hp
      unfold XCellA
      rw [tg, ln, if_pos rfl, if_pos rfl, ← w1]
      have eI : h_I (newC σ t0 n s0) (h_nx σ) = fun _ => 0 := funext fun _ => if_pos rfl
      have eR : h_R (newC σ t0 n s0) (h_nx σ) = fun _ => none := funext fun _ => if_pos rfl
      rw [eI, eR]
      exact h9
    · rw [tg, if_neg e] at hp
      obtain ⟨q1, q2, q3⟩ := w4 p hp
      refine ⟨Nat.lt_succ_of_lt q1, ?_, q3.kept (e3 _ (by rw [w1]; omega))⟩
      unfold XCellA at q2 ⊢
      rw [tg, ln, if_neg e, if_neg e]
      have eI : h_I (newC σ t0 n s0) p = h_I σ p := funext fun _ => if_neg e
      have eR : h_R (newC σ t0 n s0) p = h_R σ p := funext fun _ => if_neg e
      rw [eI, eR]
      exact q2.kept (e3 _ (by rw [w1]; omega))
  · by_cases e : p = h_nx σ
    · subst e
      rw [tg, ln, if_pos rfl, if_pos rfl, ← w1]
      exact ⟨cell, e1, by rw [hsz, hs]⟩
    · rw [tg, ln, if_neg e, if_neg e]
      have hp' : p < h_nx σ := by
        have : p < h_nx σ + 1 := hp
        omega
      obtain ⟨c, q1, q2⟩ := w5 p hp'
      exact ⟨c, by rw [e3 _ (by rw [w1]; omega)]; exact q1, q2⟩
  · show h_us σ + s0 = sumTo _ (h_nx σ) + xsz (h_tg (newC σ t0 n s0) (h_nx σ)) (h_ln (newC σ t0 n s0) (h_nx σ))
    rw [tg, ln, if_pos rfl, if_pos rfl, hs, w6]
    congr 1
    refine sumTo_congr fun i hi => ?_
    rw [tg, ln, if_neg (by omega), if_neg (by omega)]
  · refine ⟨fun q hq => ?_, fun q hq => ?_⟩
    · rw [tg] at hq
      by_cases e : q = h_nx σ
      · rw [if_pos e] at hq
        exact absurd hq ht0.1
      · rw [if_neg e] at hq
        obtain ⟨i, hi, e', r1, r2⟩ := w7.1 q hq
        exact ⟨i, hi, e', (if_neg e : zR (h_R σ) (h_nx σ) q 0 = _).trans r1, (if_neg e : zI (h_I σ) (h_nx σ) q 1 = _).trans r2⟩
    · rw [tg] at hq
      by_cases e : q = h_nx σ
      · rw [if_pos e] at hq
        exact absurd hq ht0.2
      · rw [if_neg e] at hq
        obtain ⟨i, hi, e', r1, r2⟩ := w7.2 q hq
        exact ⟨i, hi, e', (if_neg e : upN (h_ln σ) (h_nx σ) n q = _).trans r1, fun j hj => (if_neg e : zI (h_I σ) (h_nx σ) q j = _).trans (r2 j hj)⟩
theorem xS_new {H H1 : Heap} {locs : List Loc} (hS : va_S (xA g) H0 H locs) (e2 : H1.size = H.size + 1) (e3 : ∀ q, q < H.size → H1[q]? = H[q]?) : va_S (xA g) H0 H1 locs :=
  ⟨Nat.le_trans hS.1 (by omega), fun x h1 h2 => (e3 x (Nat.lt_of_lt_of_le h1 hS.1)).trans (hS.2.1 x h1 h2), hS.2.2⟩
def dfl (t k : Nat) : Value := match fkd t k with
  | 0 => .int 0
  | 1 => .long 0
  | _ => .null
theorem dflt_ok : ∀ t0, t0 < 29 → ∀ k, k < fnum t0 → defaultValue (xfty t0 k) = dfl t0 k := by decide +kernel
theorem dflt_val {g : XG} {t0 : Nat} {r0 : vw_C} (hr : xcl[t0]? = some r0) {k : Nat} (hk : k < r0.2.2) : defaultValue (xfty t0 k) = xval g t0 (fun _ => 0) (fun _ => none) k := by
  have h29 := xcl_lt hr
  rw [dflt_ok t0 h29 k (by rw [← xnum hr]; exact hk)]
  unfold xval xkd dfl
  rw [if_pos (by omega)]
  generalize fkd t0 k = m
  match m with
  | 0 => rfl
  | 1 => rfl
  | _ + 2 => rfl
theorem gx_new (C : GC X nL cc own) (E : XE X g σ0) {f : Option Nat → Hp → P → Prop} {t0 i : Nat} {r0 : vw_C} (hd : decode cc pc = .ok (.new i, 3)) (hr : xcl[t0]? = some r0) (hl : Cond.classLink own i r0.1 ∈ lw_all) (hi : Cond.instantiable r0.1 (fnum t0) ∈ lw_all) (hini : Cond.initialized r0.1 ∈ lw_all)
    (k9 : ∀ p, GJ X nL (xWo g σ0 H0) Q (f p) (pc + 3) L (rv g p :: st)) : GJ X nL (xWo g σ0 H0) Q (pbnd (xnew t0) f) pc L st := by
  intro σ ⟨⟨hn, hu⟩, q⟩ H locs cs ss ls w l
  obtain ⟨w, hS, hc, hs, hn0, hu0, hz0⟩ := w
  obtain ⟨K, hsz, hRc, hRs, -⟩ := E
  obtain ⟨hSl, hfc, kC0, hkC0, hkind⟩ := K.1.1 t0 r0 hr
  have h29 := xcl_lt hr
  refine W.newcK C.1 C.2.1 C.2.2.2.2.1 (C.2.2.2.2.2 _ hl) (C.2.2.2.2.2 _ hi) (C.2.2.2.2.2 _ hini) rfl hd (by rw [hRc, hc]; omega) (by rw [hRs, hs]; omega) hfc rfl (fun H' kC hkC e1 e2 e3 => ?_)
  have hkz : kC.instanceTypes.size = fnum t0 := by
    obtain ⟨c, k, g1, g2, -, -, -, g3⟩ := Cond.instantiable_spec (C.2.2.2.2.2 _ hi)
    cases hfc.symm.trans g1
    cases hkC.symm.trans g2
    exact g3
  have hbs : (blank (g.1.1 t0) kC).slots.size = fnum t0 := by simp [blank, hkz]
  have hw : XWd g (newC σ t0 0 (fnum t0)) H' := w.new ⟨by omega, by omega⟩ hn hu (xsz_o h29) e1 e2 e3 hbs ⟨rfl, rfl⟩ (fun _ => by
    rw [xcid_o h29, xis_o h29, xsz_o h29]
    obtain ⟨cell, q1, q2, q3, q4⟩ := u_born (xfty t0) C.2.2.2.2.2 (xin t0 r0 hr) (K.1.1 t0 r0 hr) hkC e1 (xfty_ok t0 r0 hr)
    cases e1.symm.trans q1
    exact ⟨_, e1, q2, q3, hbs, fun k hk => by
      rw [← xnum hr] at hk
      exact (q4 k hk).trans (congrArg some (dflt_val hr hk))⟩)
  have e9 : Value.ref H.size = rv g (some (h_nx σ)) := by
    show _ = Value.ref (real g (h_nx σ))
    rw [real_lt hn (Nat.le_refl _), w.1]
  show W _ _ _ _ _ _ _ _ _ _ _ _ _ _ _ (F0 _ (pc + 3) ls (Value.ref H.size :: st))
  rw [e9]
  exact k9 _ _ q H' locs _ _ ls ⟨hw, xS_new hS e2 e3, by rw [hc]; show _ = h_nx σ + 1 - h_nx σ0; omega, by rw [hs]; show _ = h_us σ + fnum t0 - h_us σ0; omega, Nat.le_succ_of_le hn0, Nat.le_trans hu0 (Nat.le_add_right _ _), fun p hp => by
    obtain ⟨z1, z2⟩ := hz0 p hp
    exact ⟨(if_neg (by omega)).trans z1, (if_neg (by omega)).trans z2⟩⟩ l
theorem arrC_id {s : State} {cA cB : ClassId} {ty : FieldType} (hA : s.vm.findClass ("[" ++ ty.toString) = some cA) (hB : s.vm.findClass ("[" ++ ty.toString) = some cB) : cA = cB := Option.some.inj (hA.symm.trans hB)
theorem ra_name {U : State} {c : ClassId} {ty : FieldType} (h : va_RA U c ty) : U.vm.findClass ("[" ++ ty.toString) = some c := by
  cases ty with
  | object C => obtain ⟨_, _, _, _, _, h⟩ := h; exact h
  | _ => exact h
theorem gx_newa (C : GC X nL cc own) (E : XE X g σ0) {f : Option Nat → Hp → P → Prop} {t0 : Nat} {atype : ArrayType} (hd : decode cc pc = .ok (.newarray atype, 2)) (h8 : t0 < 8) (hty : (xtyL g)[t0]? = some (g.2.1 t0, newarray.typeOf atype)) (harr : Cond.arrayClass (newarray.typeOf atype) ∈ lw_all) (hcb : componentBytes (newarray.typeOf atype) ≤ 8) (hdv : defaultValue (newarray.typeOf atype) = xval g (40 + t0) (fun _ => 0) (fun _ => none) 0)
    (k9 : ∀ p, GJ X nL (xWo g σ0 H0) Q (f p) (pc + 2) L (rv g p :: st)) : GJ X nL (xWo g σ0 H0) Q (pbnd (xnewa (40 + t0) a) f) pc L (.int (iI a) :: st) := by
  intro σ ⟨⟨ha, hb, hn, hu⟩, q⟩ H locs cs ss ls w l
  obtain ⟨w, hS, hc, hs, hn0, hu0, hz0⟩ := w
  obtain ⟨K, hsz, hRc, hRs, -⟩ := E
  have hRA := ra_name (K.1.2 t0 _ hty).2
  refine va_newaK (N := (w32 a).toNat) C.1 C.2.1 (C.2.2.2.2.2 _ harr) rfl hd rfl (fun z => ?_) rfl ?_ (by rw [hRc, hc]; omega) (by rw [hRs, hs]; omega) rfl (fun H' cA e1 e2 e3 hAr hNm => ?_)
  · have := (iI_lt0 a).mp z
    omega
  · have h1 : (w32 a).toNat ≤ 60000000 := by omega
    exact Nat.le_trans (Nat.mul_le_mul h1 hcb) (by decide)
  have hcA : cA = g.2.1 t0 := arrC_id (s := cx_s X) (by first | exact hNm | exact ra_name hNm) hRA
  subst hcA
  have hw : XWd g (newC σ (40 + t0) (w32 a).toNat (w32 a).toNat) H' := w.new ⟨by omega, by omega⟩ hn hu xsz_a e1 e2 e3 (arrV_size _ _ _) ⟨rfl, rfl⟩ (fun _ => by
    rw [xcid_a, xis_a, xsz_a]
    have h0 : ∀ k, xval g (40 + t0) (fun _ => 0) (fun _ => none) k = defaultValue (newarray.typeOf atype) := fun k => by
      rw [hdv]
      have hx : ∀ k, xkd (40 + t0) k = if 40 + t0 = 41 then 1 else if 44 ≤ 40 + t0 then 2 else 0 := fun k => by
        unfold xkd
        rw [if_neg (Nat.not_lt.mpr (Nat.le_add_right 40 t0))]
      unfold xval
      rw [hx k, hx 0]
    exact ⟨_, e1, rfl, rfl, arrV_size _ _ _, fun k hk => by rw [h0]; exact arrV_read _ _ hk⟩)
  have e9 : Value.ref H.size = rv g (some (h_nx σ)) := by
    show _ = Value.ref (real g (h_nx σ))
    rw [real_lt hn (Nat.le_refl _), w.1]
  show W _ _ _ _ _ _ _ _ _ _ _ _ _ _ _ (F0 _ (pc + 2) ls (Value.ref H.size :: st))
  rw [e9]
  exact k9 _ _ q H' locs _ _ ls ⟨hw, xS_new hS e2 e3, by rw [hc]; show _ = h_nx σ + 1 - h_nx σ0; omega, by rw [hs]; show _ = h_us σ + (w32 a).toNat - h_us σ0; omega, Nat.le_succ_of_le hn0, Nat.le_trans hu0 (Nat.le_add_right _ _), fun p hp => by
    obtain ⟨z1, z2⟩ := hz0 p hp
    exact ⟨(if_neg (by omega)).trans z1, (if_neg (by omega)).trans z2⟩⟩ l
theorem gx_anew (C : GC X nL cc own) (E : XE X g σ0) {f : Option Nat → Hp → P → Prop} {t0 i : Nat} {EN : String} (hd : decode cc pc = .ok (.anewarray i, 3)) (h8 : t0 < 8) (h4' : 4 ≤ t0) (hty : (xtyL g)[t0]? = some (g.2.1 t0, .object EN)) (hl : Cond.classLink own i EN ∈ lw_all) (ho : va_AO EN (cx_s X))
    (k9 : ∀ p, GJ X nL (xWo g σ0 H0) Q (f p) (pc + 3) L (rv g p :: st)) : GJ X nL (xWo g σ0 H0) Q (pbnd (xnewa (40 + t0) a) f) pc L (.int (iI a) :: st) := by
  intro σ ⟨⟨ha, hb, hn, hu⟩, q⟩ H locs cs ss ls w l
  obtain ⟨w, hS, hc, hs, hn0, hu0, hz0⟩ := w
  obtain ⟨K, hsz, hRc, hRs, -⟩ := E
  have hRA := ra_name (K.1.2 t0 _ hty).2
  refine W.anew C.1 C.2.1 C.2.2.2.2.1 (C.2.2.2.2.2 _ hl) (va_AO.use ho) rfl hd rfl (fun z => ?_) ?_ (by rw [hRc, hc]; omega) (by rw [hRs, hs, iI_clamp]; omega) (fun cA kA comp f1 f2 f3 f4 => ?_)
  · have := (iI_lt0 a).mp z
    omega
  · rw [iI_clamp]
    have h1 : (w32 a).toNat ≤ 60000000 := by omega
    exact Nat.le_trans (Nat.mul_le_mul h1 (Nat.le_refl 4)) (by decide)
  have hcA : cA = g.2.1 t0 := arrC_id (s := cx_s X) f1 hRA
  subst hcA
  rw [iI_clamp]
  generalize hH1 : H.push ({ cls := g.2.1 t0, slots := Array.replicate (w32 a).toNat .null, vm := .none } : Cell) = H'
  have e2 : H'.size = H.size + 1 := by rw [← hH1, Array.size_push]
  have e1 : H'[H.size]? = some (arrV (g.2.1 t0) (w32 a).toNat (fun _ => .null)) := by rw [← hH1, Array.getElem?_push_size, ← arrV_new]
  have e3 : ∀ q : Nat, q < H.size → H'[q]? = H[q]? := fun q hq => by rw [← hH1, Array.getElem?_push, if_neg (Nat.ne_of_lt hq)]
  have hw : XWd g (newC σ (40 + t0) (w32 a).toNat (w32 a).toNat) H' := w.new ⟨by omega, by omega⟩ hn hu xsz_a e1 e2 e3 (arrV_size _ _ _) ⟨rfl, rfl⟩ (fun _ => by
    rw [xcid_a, xis_a, xsz_a]
    exact ⟨_, e1, rfl, rfl, arrV_size _ _ _, fun k hk => by rw [xval_ar h4']; exact arrV_read _ _ hk⟩)
  have e9 : Value.ref H.size = rv g (some (h_nx σ)) := by
    show _ = Value.ref (real g (h_nx σ))
    rw [real_lt hn (Nat.le_refl _), w.1]
  show W _ _ _ _ _ _ _ _ _ _ _ _ _ _ _ (F0 _ (pc + 3) ls (Value.ref H.size :: st))
  rw [e9]
  exact k9 _ _ q H' locs _ _ ls ⟨hw, xS_new hS e2 e3, by rw [hc]; show _ = h_nx σ + 1 - h_nx σ0; omega, by rw [hs]; show _ = h_us σ + (w32 a).toNat - h_us σ0; omega, Nat.le_succ_of_le hn0, Nat.le_trans hu0 (Nat.le_add_right _ _), fun p hp => by
    obtain ⟨z1, z2⟩ := hz0 p hp
    exact ⟨(if_neg (by omega)).trans z1, (if_neg (by omega)).trans z2⟩⟩ l
end XROWS2
