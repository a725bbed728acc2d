/-! THE MODEL's CLASS: one object and its arrays, in a row of cells from am on. -/
/-- all classes of the model's walk: 0 the model's -/
def mcl : List vw_C := [(RX5, TX5, 43)]
/-- the model's ground: field places, array classes, the object's address -/
abbrev MG : Type := va_G × (Nat → ClassId) × Nat
def tyL (g : MG) : List (ClassId × FieldType) := [(g.2.1 0, .int), (g.2.1 1, .long), (g.2.1 2, .boolean)]
def mfv (am : Nat) (σ : MS) (k : Nat) : Value := if k = 30 then .long (iL (σ 0 k)) else if mref k = 0 then .int (iI (σ 0 k)) else .ref (am + mref k)
def mflds (am : Nat) (σ : MS) : List Value := (List.range 43).map (mfv am σ)
def mcell (g : MG) (σ : MS) (j : Nat) : va_E := match mtab j with
  | (0, n) => .inl (g.2.1 0, n, .inl (fun i => iI (σ j i)))
  | (1, n) => .inl (g.2.1 1, n, .inr (.inl (fun i => iL (σ j i))))
  | (2, n) => .inl (g.2.1 2, n, .inl (fun i => iI (σ j i)))
  | _ => .inr (0, mflds g.2.2 σ)
theorem mcell_i {g : MG} {σ : MS} {j n : Nat} (h : mtab j = (0, n)) : mcell g σ j = .inl (g.2.1 0, n, .inl (fun i => iI (σ j i))) := by
  rw [mcell, h]
  rfl
theorem mcell_l {g : MG} {σ : MS} {j n : Nat} (h : mtab j = (1, n)) : mcell g σ j = .inl (g.2.1 1, n, .inr (.inl (fun i => iL (σ j i)))) := by
  rw [mcell, h]
  rfl
theorem mcell_z {g : MG} {σ : MS} {j n : Nat} (h : mtab j = (2, n)) : mcell g σ j = .inl (g.2.1 2, n, .inl (fun i => iI (σ j i))) := by
  rw [mcell, h]
  rfl
def mws (g : MG) (σ : MS) : va_W := (List.range 25).map (fun j => (g.2.2 + j, mcell g σ j))
def MWd (g : MG) (σ : MS) (H : Heap) : Prop := va_P g.1 mcl (mws g σ) H
def mA (g : MG) : Nat → Prop := fun q => g.2.2 ≤ q ∧ q < g.2.2 + 25
def mWo (g : MG) (H0 : Heap) : Wo MS := fun σ H locs cs ss => MWd g σ H ∧ va_S (mA g) H0 H locs ∧ cs = 0 ∧ ss = 0
def mK (g : MG) (U : State) : Prop := va_K g.1 mcl (tyL g) U
def mPost {α : Type} (g : MG) (Q : α → MS → Prop) (rv : α → Option Value) : Array Value → State → Outcome → State → Prop :=
  fun _ st o t => (∃ (r : α) (σ : MS), o = .returned (rv r) ∧ Q r σ ∧ MWd g σ t.heap) ∧ va_F (mA g) st t
def MR {α : Type} (X : Cx) (g : MG) (Q : α → MS → Prop) (rv : α → Option Value) : Prop := cx_q X = MQ (cx_b X) (mPost g Q rv) (cx_a X) (cx_s X) 0 0 (mA g)
def mroom (k : Nat) : Room := { frames := k, cells := 0, slots := 0, locals := 40 * k }
def MMet {α : Type} (l : Launch) (g : MG) (y : MethodName) (cc : ByteArray) (nL : Nat) (ret : Option FieldType) (k : Nat) (As : List Value) (f : MM α) (rv : α → Option Value) : Prop :=
  ∀ (Q : α → MS → Prop) (σ : MS), f σ Q → Met l y (ws_ y cc nL ret) (mroom k) (va_Pc As (fun U => MWd g σ U.heap ∧ mK g U)) (mPost g Q rv) 0 0 (mA g)
def rvI : Int → Option Value := fun r => some (.int (iI r))
def rvL : Int → Option Value := fun r => some (.long (iL r))
def rvV : Unit → Option Value := fun _ => none
theorem mws_get (g : MG) (σ : MS) {j : Nat} (h : j < 25) : (mws g σ)[j]? = some (g.2.2 + j, mcell g σ j) := by
  simp [mws, h]
theorem mws_inv {g : MG} {σ : MS} {k : Nat} {q : Nat × va_E} (h : (mws g σ)[k]? = some q) : k < 25 ∧ q = (g.2.2 + k, mcell g σ k) := by
  have hl : k < (mws g σ).length := (List.getElem?_eq_some_iff.mp h).1
  have hk : k < 25 := by simpa [mws] using hl
  rw [mws_get g σ hk] at h
  exact ⟨hk, (Option.some.inj h).symm⟩
theorem mD (g : MG) (σ : MS) : va_D (mA g) (mws g σ) := by
  refine ⟨fun i j p q hi hj e => ?_, fun k q hk => ?_⟩
  · obtain ⟨-, rfl⟩ := mws_inv hi
    obtain ⟨-, rfl⟩ := mws_inv hj
    exact Nat.add_left_cancel e
  · obtain ⟨h, rfl⟩ := mws_inv hk
    exact ⟨Nat.le_add_right _ _, Nat.add_lt_add_left h _⟩
theorem mcell_up {g : MG} {σ : MS} {j k i : Nat} {v : Int} (h : k ≠ j) (hj : j ≠ 0) : mcell g (up2 σ j i v) k = mcell g σ k := by
  have hr : ∀ i', up2 σ j i v k i' = σ k i' := fun i' => by simp [up2, h]
  have h0 : ∀ i', up2 σ j i v 0 i' = σ 0 i' := fun i' => by simp [up2, Ne.symm hj]
  have hf : mflds g.2.2 (up2 σ j i v) = mflds g.2.2 σ := by
    unfold mflds mfv
    simp only [h0]
  unfold mcell
  simp only [hr, hf]
theorem mtab_obj : ∀ k, k < 25 → k ≠ 0 → (mtab k).1 < 3 := by decide
theorem mcell_up0 {g : MG} {σ : MS} {k i : Nat} {v : Int} (hk : k < 25) (h : k ≠ 0) : mcell g (up2 σ 0 i v) k = mcell g σ k := by
  have hr : ∀ i', up2 σ 0 i v k i' = σ k i' := fun i' => by simp [up2, h]
  have h3 := mtab_obj k hk h
  unfold mcell
  simp only [hr]
  generalize mtab k = p at h3 ⊢
  obtain ⟨a, n⟩ := p
  match a, h3 with
  | 0, _ => rfl
  | 1, _ => rfl
  | 2, _ => rfl
/-- a row written -/
theorem MWd.put {g : MG} {σ σ' : MS} {H : Heap} {j : Nat} {e : va_E} (he : e = mcell g σ' j) (ho : ∀ k, k < 25 → k ≠ j → mcell g σ' k = mcell g σ k) (h : va_P g.1 mcl ((mws g σ).set j (g.2.2 + j, e)) H) : MWd g σ' H := by
  intro k q hk
  obtain ⟨hk8, rfl⟩ := mws_inv hk
  refine h k _ ?_
  by_cases e2 : k = j
  · subst e2
    rw [List.getElem?_set_self (by simpa [mws] using hk8), he]
  · rw [List.getElem?_set_ne (fun z => e2 z.symm), mws_get g σ hk8, ho k hk8 e2]
theorem vp_in_w {z : Int} {n : Nat} (h : 0 ≤ w32 z ∧ w32 z < n) : vp_in (iI z) n := vp_in_iff.mpr h
theorem iI_clamp (z : Int) : (iI z).toNatClampNeg = (w32 z).toNat := rfl
theorem nar_z {v : Int} (h : v = 0 ∨ v = 1) : narrow .boolean (.int (iI v)) = .int (iI v) := by
  rcases h with h | h <;> subst h <;> decide
theorem nar_zz {v : Int} (h : v = 0 ∨ v = 1) : vp_nar .boolean (iI v) = iI v := by
  rcases h with h | h <;> subst h <;> decide
section MROWS
variable {P : Type} {X : Cx} {g : MG} {nL : Nat} {H0 : Heap} {Q : P} {cc : ByteArray} {pc : Nat} {L L' : List (Nat × Value)} {st : List Value} {a b : Int}
theorem mj_iald (C : GC X nL cc RX5) (K : mK g (cx_s X)) {j n : Nat} {f : Int → MS → P → Prop} (hd : decode cc pc = .ok (.iaload, 1)) (hj : j < 25) (ht : mtab j = (0, n)) (k : ∀ v, GJ X nL (mWo g H0) Q (f v) (pc + 1) L (.int (iI v) :: st)) : GJ X nL (mWo g H0) Q (pbnd (mrd j n a) f) pc L (.int (iI a) :: .ref (g.2.2 + j) :: st) := by
  intro σ ⟨hin, q⟩ H locs cs ss ls w l
  refine va_iald (D := g.1) (cl := mcl) (f := fun i => iI (σ j i)) C.1 C.2.1 K w.1 j 0 (by rw [mws_get g σ hj, mcell_i ht]) rfl (vp_in_w hin) hd ?_
  exact k _ σ q H locs cs ss ls w l
theorem mj_lald (C : GC X nL cc RX5) (K : mK g (cx_s X)) {j n : Nat} {f : Int → MS → P → Prop} (hd : decode cc pc = .ok (.laload, 1)) (hj : j < 25) (ht : mtab j = (1, n)) (k : ∀ v, GJ X nL (mWo g H0) Q (f v) (pc + 1) L (.long (iL v) :: st)) : GJ X nL (mWo g H0) Q (pbnd (mrd j n a) f) pc L (.int (iI a) :: .ref (g.2.2 + j) :: st) := by
  intro σ ⟨hin, q⟩ H locs cs ss ls w l
  refine va_lald (D := g.1) (cl := mcl) (f := fun i => iL (σ j i)) C.1 C.2.1 K w.1 j 1 (by rw [mws_get g σ hj, mcell_l ht]) rfl (vp_in_w hin) hd ?_
  exact k _ σ q H locs cs ss ls w l
theorem mj_zald (C : GC X nL cc RX5) (K : mK g (cx_s X)) {j n : Nat} {f : Int → MS → P → Prop} (hd : decode cc pc = .ok (.baload, 1)) (hj : j < 25) (ht : mtab j = (2, n)) (k : ∀ v, GJ X nL (mWo g H0) Q (f v) (pc + 1) L (.int (iI v) :: st)) : GJ X nL (mWo g H0) Q (pbnd (mrd j n a) f) pc L (.int (iI a) :: .ref (g.2.2 + j) :: st) := by
  intro σ ⟨hin, q⟩ H locs cs ss ls w l
  refine va_zald (D := g.1) (cl := mcl) (f := fun i => iI (σ j i)) C.1 C.2.1 K w.1 j 2 (by rw [mws_get g σ hj, mcell_z ht]) rfl (vp_in_w hin) hd ?_
  exact k _ σ q H locs cs ss ls w l
theorem mj_iast (C : GC X nL cc RX5) (K : mK g (cx_s X)) {j n : Nat} {f : Unit → MS → P → Prop} (hd : decode cc pc = .ok (.iastore, 1)) (hj : j < 25) (hz : j ≠ 0) (ht : mtab j = (0, n)) (k : GJ X nL (mWo g H0) Q (f ()) (pc + 1) L st) : GJ X nL (mWo g H0) Q (pbnd (mwr j n a b) f) pc L (.int (iI b) :: .int (iI a) :: .ref (g.2.2 + j) :: st) := by
  intro σ ⟨hin, q⟩ H locs cs ss ls ⟨w, hS, hc, hs⟩ l
  refine va_iast (D := g.1) (cl := mcl) (A := mA g) (f := fun i => iI (σ j i)) C.1 C.2.1 K w (mD g σ) hS j 0 (by rw [mws_get g σ hj, mcell_i ht]) rfl (vp_in_w hin) hd (fun H1 locs1 hP _ hS1 => ?_)
  refine k _ q H1 locs1 cs ss ls ⟨MWd.put (σ' := up2 σ j (w32 a).toNat b) ?_ (fun k _ hk => mcell_up hk hz) hP, hS1, hc, hs⟩ l
  rw [mcell_i ht]
  refine congrArg (fun z => Sum.inl (g.2.1 0, n, Sum.inl z)) (funext fun i => ?_)
  simp only [upd, up2, iI_clamp, true_and]
  by_cases hi : i = (w32 a).toNat <;> simp [hi]
theorem mj_zast (C : GC X nL cc RX5) (K : mK g (cx_s X)) {j n : Nat} {f : Unit → MS → P → Prop} (hd : decode cc pc = .ok (.bastore, 1)) (hj : j < 25) (hz : j ≠ 0) (ht : mtab j = (2, n)) (k : GJ X nL (mWo g H0) Q (f ()) (pc + 1) L st) : GJ X nL (mWo g H0) Q (pbnd (mwrz j n a b) f) pc L (.int (iI b) :: .int (iI a) :: .ref (g.2.2 + j) :: st) := by
  intro σ ⟨hin, hb, q⟩ H locs cs ss ls ⟨w, hS, hc, hs⟩ l
  refine va_zast (D := g.1) (cl := mcl) (A := mA g) (f := fun i => iI (σ j i)) C.1 C.2.1 K w (mD g σ) hS j 2 (by rw [mws_get g σ hj, mcell_z ht]) rfl (vp_in_w hin) hd (fun H1 locs1 hP _ hS1 => ?_)
  refine k _ q H1 locs1 cs ss ls ⟨MWd.put (σ' := up2 σ j (w32 a).toNat b) ?_ (fun k _ hk => mcell_up hk hz) hP, hS1, hc, hs⟩ l
  rw [mcell_z ht]
  refine congrArg (fun z => Sum.inl (g.2.1 2, n, Sum.inl z)) (funext fun i => ?_)
  simp only [upd, up2, iI_clamp, true_and, nar_zz hb]
  by_cases hi : i = (w32 a).toNat <;> simp [hi]
theorem mj_last (C : GC X nL cc RX5) (K : mK g (cx_s X)) {j n : Nat} {f : Unit → MS → P → Prop} (hd : decode cc pc = .ok (.lastore, 1)) (hj : j < 25) (hz : j ≠ 0) (ht : mtab j = (1, n)) (k : GJ X nL (mWo g H0) Q (f ()) (pc + 1) L st) : GJ X nL (mWo g H0) Q (pbnd (mwr j n a b) f) pc L (.long (iL b) :: .int (iI a) :: .ref (g.2.2 + j) :: st) := by
  intro σ ⟨hin, q⟩ H locs cs ss ls ⟨w, hS, hc, hs⟩ l
  refine va_last (D := g.1) (cl := mcl) (A := mA g) (f := fun i => iL (σ j i)) C.1 C.2.1 K w (mD g σ) hS j 1 (by rw [mws_get g σ hj, mcell_l ht]) rfl (vp_in_w hin) hd (fun H1 locs1 hP _ hS1 => ?_)
  refine k _ q H1 locs1 cs ss ls ⟨MWd.put (σ' := up2 σ j (w32 a).toNat b) ?_ (fun k _ hk => mcell_up hk hz) hP, hS1, hc, hs⟩ l
  rw [mcell_l ht]
  refine congrArg (fun z => Sum.inl (g.2.1 1, n, Sum.inr (Sum.inl z))) (funext fun i => ?_)
  simp only [vp_updL, up2, iI_clamp, true_and]
  by_cases hi : i = (w32 a).toNat <;> simp [hi]
theorem mws_obj (g : MG) (σ : MS) : (mws g σ)[0]? = some (g.2.2, .inr (0, mflds g.2.2 σ)) := mws_get g σ (by decide)
theorem mflds_get (am : Nat) (σ : MS) {k : Nat} (h : k < 43) : (mflds am σ)[k]? = some (mfv am σ k) := by simp [mflds, h]
theorem mj_getI (C : GC X nL cc RX5) (K : mK g (cx_s X)) {i kf : Nat} {f : Int → MS → P → Prop} (hd : decode cc pc = .ok (.getfield i, 3)) (hk : kf < 43) (h3 : kf ≠ 30) (hm : mref kf = 0) (hl : (Cond.fieldLink RX5 i RX5 (TX5 kf).2.1 (TX5 kf).2.2.1) ∈ lw_all) (ho : (TX5 kf).1 = RX5) (k : ∀ v, GJ X nL (mWo g H0) Q (f v) (pc + 3) L (.int (iI v) :: st)) : GJ X nL (mWo g H0) Q (pbnd (mget kf) f) pc L (.ref g.2.2 :: st) := by
  intro σ q H locs cs ss ls w l
  refine va_get (D := g.1) (cl := mcl) (ci := 0) (C := RX5) (T := TX5) (N := 43) C.1 C.2.1 C.2.2.2.2.2 in_X5 C.2.2.2.2.1 K w.1 0 (mws_obj g σ) rfl kf hk (C.2.2.2.2.2 _ hl) (fun _ h => by rw [← ho]; exact h) (mflds_get g.2.2 σ hk) hd ?_
  rw [mfv, if_neg h3, if_pos hm]
  exact k _ σ q H locs cs ss ls w l
theorem mj_getL (C : GC X nL cc RX5) (K : mK g (cx_s X)) {i : Nat} {f : Int → MS → P → Prop} (hd : decode cc pc = .ok (.getfield i, 3)) (hl : (Cond.fieldLink RX5 i RX5 (TX5 30).2.1 (TX5 30).2.2.1) ∈ lw_all) (k : ∀ v, GJ X nL (mWo g H0) Q (f v) (pc + 3) L (.long (iL v) :: st)) : GJ X nL (mWo g H0) Q (pbnd (mget 30) f) pc L (.ref g.2.2 :: st) := by
  intro σ q H locs cs ss ls w l
  refine va_get (D := g.1) (cl := mcl) (ci := 0) (C := RX5) (T := TX5) (N := 43) C.1 C.2.1 C.2.2.2.2.2 in_X5 C.2.2.2.2.1 K w.1 0 (mws_obj g σ) rfl 30 (by decide) (C.2.2.2.2.2 _ hl) (fun _ h => h) (mflds_get g.2.2 σ (by decide)) hd ?_
  rw [mfv, if_pos rfl]
  exact k _ σ q H locs cs ss ls w l
theorem mj_getR (C : GC X nL cc RX5) (K : mK g (cx_s X)) {i kf j : Nat} {t : MS → P → Prop} (hd : decode cc pc = .ok (.getfield i, 3)) (hk : kf < 43) (h3 : kf ≠ 30) (hm : mref kf = j) (hj : j ≠ 0) (hl : (Cond.fieldLink RX5 i RX5 (TX5 kf).2.1 (TX5 kf).2.2.1) ∈ lw_all) (ho : (TX5 kf).1 = RX5) (k : GJ X nL (mWo g H0) Q t (pc + 3) L (.ref (g.2.2 + j) :: st)) : GJ X nL (mWo g H0) Q t pc L (.ref g.2.2 :: st) := by
  intro σ q H locs cs ss ls w l
  refine va_get (D := g.1) (cl := mcl) (ci := 0) (C := RX5) (T := TX5) (N := 43) C.1 C.2.1 C.2.2.2.2.2 in_X5 C.2.2.2.2.1 K w.1 0 (mws_obj g σ) rfl kf hk (C.2.2.2.2.2 _ hl) (fun _ h => by rw [← ho]; exact h) (mflds_get g.2.2 σ hk) hd ?_
  rw [mfv, if_neg h3, hm, if_neg hj]
  exact k σ q H locs cs ss ls w l
theorem mflds_set (am : Nat) (σ : MS) (kf : Nat) (v : Int) (x : Value) (hk : kf < 43) (hx : x = mfv am (up2 σ 0 kf v) kf) : (mflds am σ).set kf x = mflds am (up2 σ 0 kf v) := by
  refine List.ext_getElem? fun i => ?_
  by_cases h : i = kf
  · subst h
    rw [List.getElem?_set_self (by simpa [mflds] using hk), mflds_get _ _ hk, hx]
  · rw [List.getElem?_set_ne (fun z => h z.symm)]
    have e : ∀ i', i' ≠ kf → mfv am (up2 σ 0 kf v) i' = mfv am σ i' := fun i' hi => by simp [mfv, up2, hi]
    by_cases hi : i < 43
    · rw [mflds_get _ _ hi, mflds_get _ _ hi, e i h]
    · rw [List.getElem?_eq_none (by simpa [mflds] using hi), List.getElem?_eq_none (by simpa [mflds] using hi)]
theorem mj_put (C : GC X nL cc RX5) (K : mK g (cx_s X)) {i kf : Nat} {ty : FieldType} {x : Value} {v : Int} {σ : MS} {H : Heap} {locs : List Loc} {cs ss : Nat} {ls : Array Slot} (hd : decode cc pc = .ok (.putfield i, 3)) (hk : kf < 43) (hx : x = mfv g.2.2 (up2 σ 0 kf v) kf) (hl : (Cond.fieldLink RX5 i RX5 (TX5 kf).2.1 (TX5 kf).2.2.1) ∈ lw_all) (ho : (TX5 kf).1 = RX5) (hfin : (TX5 kf).2.2.2 = false) (hty : parseFieldDescriptor (TX5 kf).2.2.1 = some ty) (hn : narrow ty x = x) (hf : fits ty x = true) (w : mWo g H0 σ H locs cs ss) (l : lv_has ls nL L)
    (k : GV X nL (mWo g H0) (up2 σ 0 kf v) (pc + 3) L st) : W (cx_p X) (cx_l X) (cx_e X) (cx_R X) (cx_s X) (cx_m X) (cx_a X) (cx_b X) (cx_y X) (cx_c X) H locs cs ss (cx_q X) (F0 (cx_m X) pc ls (x :: .ref g.2.2 :: st)) := by
  obtain ⟨w, hS, hc, hs⟩ := w
  refine va_put (D := g.1) (cl := mcl) (A := mA g) (ci := 0) (C := RX5) (T := TX5) (N := 43) C.1 C.2.1 C.2.2.2.2.2 in_X5 tyX5 tyX5_ok nmX5 C.2.2.2.2.1 K w (mD g σ) hS 0 (mws_obj g σ) rfl kf hk (C.2.2.2.2.2 _ hl) (fun _ h => by rw [← ho]; exact h) hfin hty hn hf (by simpa [mflds] using hk) hd (fun H1 locs1 hP _ hS1 => ?_)
  refine k H1 locs1 cs ss ls ⟨MWd.put (j := 0) (σ' := up2 σ 0 kf v) rfl (fun k hk8 hk => mcell_up0 hk8 hk) (e := .inr (0, mflds g.2.2 (up2 σ 0 kf v))) ?_, hS1, hc, hs⟩ l
  rw [mflds_set g.2.2 σ kf v x hk hx] at hP
  exact hP
theorem mj_putI (C : GC X nL cc RX5) (K : mK g (cx_s X)) {i kf : Nat} {f : Unit → MS → P → Prop} (hd : decode cc pc = .ok (.putfield i, 3)) (hk : kf < 43) (h3 : kf ≠ 30) (hm : mref kf = 0) (hl : (Cond.fieldLink RX5 i RX5 (TX5 kf).2.1 (TX5 kf).2.2.1) ∈ lw_all) (ho : (TX5 kf).1 = RX5) (hfin : (TX5 kf).2.2.2 = false) (hty : parseFieldDescriptor (TX5 kf).2.2.1 = some .int) (k : GJ X nL (mWo g H0) Q (f ()) (pc + 3) L st) : GJ X nL (mWo g H0) Q (pbnd (mput kf b) f) pc L (.int (iI b) :: .ref g.2.2 :: st) := by
  intro σ q H locs cs ss ls w l
  exact mj_put C K hd hk (v := b) (by rw [mfv, if_neg h3, if_pos hm]; simp [up2]) hl ho hfin hty rfl rfl w l (k _ q)
theorem mj_putZ (C : GC X nL cc RX5) (K : mK g (cx_s X)) {i kf : Nat} {f : Unit → MS → P → Prop} (hd : decode cc pc = .ok (.putfield i, 3)) (hk : kf < 43) (h3 : kf ≠ 30) (hm : mref kf = 0) (hl : (Cond.fieldLink RX5 i RX5 (TX5 kf).2.1 (TX5 kf).2.2.1) ∈ lw_all) (ho : (TX5 kf).1 = RX5) (hfin : (TX5 kf).2.2.2 = false) (hty : parseFieldDescriptor (TX5 kf).2.2.1 = some .boolean) (k : GJ X nL (mWo g H0) Q (f ()) (pc + 3) L st) : GJ X nL (mWo g H0) Q (pbnd (mputz kf b) f) pc L (.int (iI b) :: .ref g.2.2 :: st) := by
  intro σ ⟨hb, q⟩ H locs cs ss ls w l
  exact mj_put C K hd hk (v := b) (by rw [mfv, if_neg h3, if_pos hm]; simp [up2]) hl ho hfin hty (nar_z hb) (by rcases hb with h | h <;> subst h <;> decide) w l (k _ q)
theorem mj_putL (C : GC X nL cc RX5) (K : mK g (cx_s X)) {i : Nat} {f : Unit → MS → P → Prop} (hd : decode cc pc = .ok (.putfield i, 3)) (hl : (Cond.fieldLink RX5 i RX5 (TX5 30).2.1 (TX5 30).2.2.1) ∈ lw_all) (k : GJ X nL (mWo g H0) Q (f ()) (pc + 3) L st) : GJ X nL (mWo g H0) Q (pbnd (mput 30 b) f) pc L (.long (iL b) :: .ref g.2.2 :: st) := by
  intro σ q H locs cs ss ls w l
  exact mj_put C K hd (by decide) (v := b) (by rw [mfv, if_pos rfl]; simp [up2]) hl rfl rfl (ty := .long) (by decide +kernel) rfl rfl w l (k _ q)
/-! the ends -/
variable {α : Type}
theorem mj_end {Q : α → MS → Prop} {rv : α → Option Value} {r : α} {σ : MS} {H : Heap} {locs : List Loc} {t : State} {a : Array Value} {s : State} (q : Q r σ) (w : MWd g σ H) (hS : va_S (mA g) s.heap H locs) (ht : t.heap = H) : mPost g Q rv a s (.returned (rv r)) t :=
  ⟨⟨r, σ, rfl, q, by rw [ht]; exact w⟩, hS.F ht⟩
theorem mj_iret {Q : Int → MS → Prop} (C : GC X nL cc RX5) (hQ : MR X g Q rvI) (hr : (cx_y X).sig.returnType = some .int) (hd : decode cc pc = .ok (.ireturn, 1)) : GJ X nL (mWo g (cx_s X).heap) Q (pret a) pc L [.int (iI a)] := by
  intro σ q H locs cs ss ls ⟨w, hS, hc, hs⟩ l
  subst hc; subst hs
  rw [hQ]
  exact W.iret C.1 C.2.1 hr (fun t ht _ => mj_end (rv := rvI) (r := a) q w hS ht) hS.2.2 hd C.2.2.2.1
theorem mj_zret {Q : Int → MS → Prop} (C : GC X nL cc RX5) (hQ : MR X g Q rvI) (hr : (cx_y X).sig.returnType = some .boolean) (hd : decode cc pc = .ok (.ireturn, 1)) : GJ X nL (mWo g (cx_s X).heap) Q (pbnd (pzo a) (fun _ => pret a)) pc L [.int (iI a)] := by
  intro σ ⟨hz, q⟩ H locs cs ss ls ⟨w, hS, hc, hs⟩ l
  subst hc; subst hs
  rw [hQ]
  exact W.zret C.1 C.2.1 hr (nar_z hz) (fun t ht _ => mj_end (rv := rvI) (r := a) q w hS ht) hS.2.2 hd C.2.2.2.1
theorem mj_vret {Q : Unit → MS → Prop} (C : GC X nL cc RX5) (hQ : MR X g Q rvV) (hr : (cx_y X).sig.returnType = none) (hd : decode cc pc = .ok (.return_, 1)) : GJ X nL (mWo g (cx_s X).heap) Q (pret ()) pc L [] := by
  intro σ q H locs cs ss ls ⟨w, hS, hc, hs⟩ l
  subst hc; subst hs
  rw [hQ]
  exact W.vret C.1 C.2.1 hr (fun t ht _ => mj_end (rv := rvV) (r := ()) q w hS ht) hS.2.2 hd C.2.2.2.1
/-! a call -/
theorem mPc_blind (As : List Value) (σ : MS) : FrameBlind (va_Pc As (fun U => MWd g σ U.heap ∧ mK g U)) := fun a U gf mk q => ⟨q.1, q.2.1, va_K.moved (u := U) (U := U.calling gf mk a) (Vm.Alike.refl U.vm) q.2.2⟩
theorem mj_run {f : MM α} {rv : α → Option Value} {kf : α → MS → P → Prop} {st0 rest : List Value} {k : Nat} {y : MethodName} {yc : ByteArray} {nL' : Nat} {ret : Option FieldType} {As : List Value}
    (hM : MMet (cx_l X) g y yc nL' ret k As f rv)
    (hrun : ∀ (σ : MS) (Q' : α → MS → Prop) (H : Heap) (locs : List Loc) (ls : Array Slot), f σ Q' → MWd g σ H → lv_has ls nL L → va_Run (cx_p X) (cx_l X) (cx_e X) (cx_R X) (cx_s X) (cx_m X) (cx_a X) (cx_b X) (cx_y X) (cx_c X) H locs 0 0 0 0 (F0 (cx_m X) pc ls st0) rest (mPost g Q' rv As.toArray) (mA g))
    (kk : ∀ r, GJ X nL (mWo g H0) Q (kf r) (pc + 3) L ((rv r).toList ++ rest)) : GJ X nL (mWo g H0) Q (pbnd f kf) pc L st0 := by
  intro σ q H locs cs ss ls ⟨w, hS, hc, hs⟩ l
  subst hc; subst hs
  intro T hT Xs
  obtain ⟨v, s0, t, T', LL, h0, X', hL, e1, e2, ⟨⟨r, σ', hv, hq, hw⟩, hF⟩, stp⟩ := hrun σ _ H locs ls q w l T hT Xs
  cases hv
  have hz : H.size ≤ T'.heap.size := by rw [e1, ← h0]; exact hF.1
  have hS' : va_S (mA g) H0 T'.heap (locs ++ LL) := ⟨Nat.le_trans hS.1 hz, fun x h1 h2 => by
    rw [e1, hF.2 x (by rw [h0]; exact Nat.lt_of_lt_of_le h1 hS.1) h2, h0]
    exact hS.2.1 x h1 h2, fun x hx => by
    rcases List.mem_append.mp hx with h | h
    · exact hS.2.2 x h
    · exact hL x h⟩
  obtain ⟨t2, a1, b1⟩ := kk r σ' hq T'.heap (locs ++ LL) 0 0 ls ⟨by rw [e1]; exact hw, hS', rfl, rfl⟩ l T' rfl X'
  exact ⟨t2, stp t2 a1, b1⟩
theorem mj_recv {σ : MS} {H : Heap} {s : State} (K : mK g s) (w : MWd g σ H) : ∃ cell : Cell, H[g.2.2]? = some cell ∧ cell.vm.isStatics = false ∧ s.vm.findClass RX5 = some cell.cls :=
  va_recv (q := (RX5, TX5, 43)) K w (ci := 0) (q0 := 0) rfl (mws_obj g σ)
/-- a call of a method of the model's object -/
theorem mj_callV (C : GC X nL cc RX5) (K : mK g (cx_s X)) {f : MM α} {rv : α → Option Value} {kf : α → MS → P → Prop} {As rest : List Value} {k n i : Nat} {y : MethodName} {yc : ByteArray} {nL' : Nat} {ret : Option FieldType}
    (hd : decode cc pc = .ok (.invokevirtual i, 3)) (hM : MMet (cx_l X) g y yc nL' ret k (.ref g.2.2 :: As) f rv) (hT : GoodIn lw_all (wsV RX5 i RX5 y (ws_ y yc nL' ret)))
    (hy : y.cls = RX5 ∧ y.cls ≠ "java/lang/invoke/MethodHandle" ∧ y.cls ≠ "java/lang/invoke/VarHandle" ∧ (parseMethodDescriptor y.desc).map (fun d => d.parameters.length) = some n)
    {kr : Nat} (hR : cx_R X = mroom kr) (hk : k + 1 ≤ kr) (hn' : nL' ≤ 20) (hlen : As.length = n) {st0 : List Value} (hst : st0 = As.reverse ++ .ref g.2.2 :: rest) (hcat : (rest.map fun v => v.category).sum ≤ 8)
    (kk : ∀ r, GJ X nL (mWo g H0) Q (kf r) (pc + 3) L ((rv r).toList ++ rest)) : GJ X nL (mWo g H0) Q (pbnd f kf) pc L st0 := by
  subst hst
  refine mj_run hM (fun σ Q' H locs ls q w l => ?_) kk
  exact va_runV (nL := nL) (As := As) (rest := rest) ⟨C.1, C.2.1, C.2.2.1, C.2.2.2.2.1, C.2.2.2.2.2⟩ (hM Q' σ q) (cwV n C.2.2.2.2.2 hT rfl rfl rfl hy ⟨by rw [hR]; exact hk, by rw [hR]; show 8 + (nL' + 11) + 40 * k ≤ 40 * kr; omega⟩)
    ⟨mPc_blind _ σ, mj_recv K w, fun U hU hW => ⟨rfl, by rw [hU]; exact w, va_K.moved hW.alike K⟩⟩ rfl hlen l.1 rfl (lv_room hcat) hd ⟨Nat.zero_le _, Nat.zero_le _⟩
/-- a call of a static method of the model's class -/
theorem mj_callS (C : GC X nL cc RX5) (K : mK g (cx_s X)) {f : MM α} {rv : α → Option Value} {kf : α → MS → P → Prop} {As rest : List Value} {k n i : Nat} {y : MethodName} {yc : ByteArray} {nL' : Nat} {ret : Option FieldType}
    (hd : decode cc pc = .ok (.invokestatic i, 3)) (hM : MMet (cx_l X) g y yc nL' ret k As f rv) (hT : GoodIn lw_all (va_wsS RX5 i y (ws_ y yc nL' ret)))
    (hy : y.cls ≠ "java/lang/invoke/MethodHandle" ∧ y.cls ≠ "java/lang/invoke/VarHandle" ∧ (parseMethodDescriptor y.desc).map (fun d => d.parameters.length) = some n)
    {kr : Nat} (hR : cx_R X = mroom kr) (hk : k + 1 ≤ kr) (hn' : nL' ≤ 20) (hlen : As.length = n) {st0 : List Value} (hst : st0 = As.reverse ++ rest) (hcat : (rest.map fun v => v.category).sum ≤ 8)
    (kk : ∀ r, GJ X nL (mWo g H0) Q (kf r) (pc + 3) L ((rv r).toList ++ rest)) : GJ X nL (mWo g H0) Q (pbnd f kf) pc L st0 := by
  subst hst
  refine mj_run hM (fun σ Q' H locs ls q w l => ?_) kk
  exact va_runS (nL := nL) (As := As) (rest := rest) ⟨C.1, C.2.1, C.2.2.1, C.2.2.2.2.1, C.2.2.2.2.2⟩ (hM Q' σ q) (va_cwS n C.2.2.2.2.2 hT rfl rfl rfl hy ⟨by rw [hR]; exact hk, by rw [hR]; show 8 + (nL' + 11) + 40 * k ≤ 40 * kr; omega⟩)
    ⟨mPc_blind _ σ, fun U hU hW => ⟨rfl, by rw [hU]; exact w, va_K.moved hW.alike K⟩⟩ rfl hlen l.1 rfl (lv_room hcat) hd ⟨Nat.zero_le _, Nat.zero_le _⟩
theorem mj_callVI (C : GC X nL cc RX5) (K : mK g (cx_s X)) {f : MM Int} {kf : Int → MS → P → Prop} {As rest : List Value} {k n i : Nat} {y : MethodName} {yc : ByteArray} {nL' : Nat} {ret : Option FieldType}
    (hd : decode cc pc = .ok (.invokevirtual i, 3)) (hM : MMet (cx_l X) g y yc nL' ret k (.ref g.2.2 :: As) f rvI) (hT : GoodIn lw_all (wsV RX5 i RX5 y (ws_ y yc nL' ret))) (hy : y.cls = RX5 ∧ y.cls ≠ "java/lang/invoke/MethodHandle" ∧ y.cls ≠ "java/lang/invoke/VarHandle" ∧ (parseMethodDescriptor y.desc).map (fun d => d.parameters.length) = some n)
    {kr : Nat} (hR : cx_R X = mroom kr) (hk : k + 1 ≤ kr) (hn' : nL' ≤ 20) (hlen : As.length = n) {st0 : List Value} (hst : st0 = As.reverse ++ .ref g.2.2 :: rest) (hcat : (rest.map fun v => v.category).sum ≤ 8)
    (kk : ∀ r, GJ X nL (mWo g H0) Q (kf r) (pc + 3) L (.int (iI r) :: rest)) : GJ X nL (mWo g H0) Q (pbnd f kf) pc L st0 := mj_callV C K hd hM hT hy hR hk hn' hlen hst hcat kk
theorem mj_callVL (C : GC X nL cc RX5) (K : mK g (cx_s X)) {f : MM Int} {kf : Int → MS → P → Prop} {As rest : List Value} {k n i : Nat} {y : MethodName} {yc : ByteArray} {nL' : Nat} {ret : Option FieldType}
    (hd : decode cc pc = .ok (.invokevirtual i, 3)) (hM : MMet (cx_l X) g y yc nL' ret k (.ref g.2.2 :: As) f rvL) (hT : GoodIn lw_all (wsV RX5 i RX5 y (ws_ y yc nL' ret))) (hy : y.cls = RX5 ∧ y.cls ≠ "java/lang/invoke/MethodHandle" ∧ y.cls ≠ "java/lang/invoke/VarHandle" ∧ (parseMethodDescriptor y.desc).map (fun d => d.parameters.length) = some n)
    {kr : Nat} (hR : cx_R X = mroom kr) (hk : k + 1 ≤ kr) (hn' : nL' ≤ 20) (hlen : As.length = n) {st0 : List Value} (hst : st0 = As.reverse ++ .ref g.2.2 :: rest) (hcat : (rest.map fun v => v.category).sum ≤ 8)
    (kk : ∀ r, GJ X nL (mWo g H0) Q (kf r) (pc + 3) L (.long (iL r) :: rest)) : GJ X nL (mWo g H0) Q (pbnd f kf) pc L st0 := mj_callV C K hd hM hT hy hR hk hn' hlen hst hcat kk
theorem mj_callVV (C : GC X nL cc RX5) (K : mK g (cx_s X)) {f : MM Unit} {kf : Unit → MS → P → Prop} {As rest : List Value} {k n i : Nat} {y : MethodName} {yc : ByteArray} {nL' : Nat} {ret : Option FieldType}
    (hd : decode cc pc = .ok (.invokevirtual i, 3)) (hM : MMet (cx_l X) g y yc nL' ret k (.ref g.2.2 :: As) f rvV) (hT : GoodIn lw_all (wsV RX5 i RX5 y (ws_ y yc nL' ret))) (hy : y.cls = RX5 ∧ y.cls ≠ "java/lang/invoke/MethodHandle" ∧ y.cls ≠ "java/lang/invoke/VarHandle" ∧ (parseMethodDescriptor y.desc).map (fun d => d.parameters.length) = some n)
    {kr : Nat} (hR : cx_R X = mroom kr) (hk : k + 1 ≤ kr) (hn' : nL' ≤ 20) (hlen : As.length = n) {st0 : List Value} (hst : st0 = As.reverse ++ .ref g.2.2 :: rest) (hcat : (rest.map fun v => v.category).sum ≤ 8)
    (kk : GJ X nL (mWo g H0) Q (kf ()) (pc + 3) L rest) : GJ X nL (mWo g H0) Q (pbnd f kf) pc L st0 := mj_callV C K hd hM hT hy hR hk hn' hlen hst hcat (fun _ => kk)
theorem mj_callSI (C : GC X nL cc RX5) (K : mK g (cx_s X)) {f : MM Int} {kf : Int → MS → P → Prop} {As rest : List Value} {k n i : Nat} {y : MethodName} {yc : ByteArray} {nL' : Nat} {ret : Option FieldType}
    (hd : decode cc pc = .ok (.invokestatic i, 3)) (hM : MMet (cx_l X) g y yc nL' ret k As f rvI) (hT : GoodIn lw_all (va_wsS RX5 i y (ws_ y yc nL' ret))) (hy : y.cls ≠ "java/lang/invoke/MethodHandle" ∧ y.cls ≠ "java/lang/invoke/VarHandle" ∧ (parseMethodDescriptor y.desc).map (fun d => d.parameters.length) = some n)
    {kr : Nat} (hR : cx_R X = mroom kr) (hk : k + 1 ≤ kr) (hn' : nL' ≤ 20) (hlen : As.length = n) {st0 : List Value} (hst : st0 = As.reverse ++ rest) (hcat : (rest.map fun v => v.category).sum ≤ 8)
    (kk : ∀ r, GJ X nL (mWo g H0) Q (kf r) (pc + 3) L (.int (iI r) :: rest)) : GJ X nL (mWo g H0) Q (pbnd f kf) pc L st0 := mj_callS C K hd hM hT hy hR hk hn' hlen hst hcat kk
theorem mj_callSL (C : GC X nL cc RX5) (K : mK g (cx_s X)) {f : MM Int} {kf : Int → MS → P → Prop} {As rest : List Value} {k n i : Nat} {y : MethodName} {yc : ByteArray} {nL' : Nat} {ret : Option FieldType}
    (hd : decode cc pc = .ok (.invokestatic i, 3)) (hM : MMet (cx_l X) g y yc nL' ret k As f rvL) (hT : GoodIn lw_all (va_wsS RX5 i y (ws_ y yc nL' ret))) (hy : y.cls ≠ "java/lang/invoke/MethodHandle" ∧ y.cls ≠ "java/lang/invoke/VarHandle" ∧ (parseMethodDescriptor y.desc).map (fun d => d.parameters.length) = some n)
    {kr : Nat} (hR : cx_R X = mroom kr) (hk : k + 1 ≤ kr) (hn' : nL' ≤ 20) (hlen : As.length = n) {st0 : List Value} (hst : st0 = As.reverse ++ rest) (hcat : (rest.map fun v => v.category).sum ≤ 8)
    (kk : ∀ r, GJ X nL (mWo g H0) Q (kf r) (pc + 3) L (.long (iL r) :: rest)) : GJ X nL (mWo g H0) Q (pbnd f kf) pc L st0 := mj_callS C K hd hM hT hy hR hk hn' hlen hst hcat kk
theorem mj_callSV (C : GC X nL cc RX5) (K : mK g (cx_s X)) {f : MM Unit} {kf : Unit → MS → P → Prop} {As rest : List Value} {k n i : Nat} {y : MethodName} {yc : ByteArray} {nL' : Nat} {ret : Option FieldType}
    (hd : decode cc pc = .ok (.invokestatic i, 3)) (hM : MMet (cx_l X) g y yc nL' ret k As f rvV) (hT : GoodIn lw_all (va_wsS RX5 i y (ws_ y yc nL' ret))) (hy : y.cls ≠ "java/lang/invoke/MethodHandle" ∧ y.cls ≠ "java/lang/invoke/VarHandle" ∧ (parseMethodDescriptor y.desc).map (fun d => d.parameters.length) = some n)
    {kr : Nat} (hR : cx_R X = mroom kr) (hk : k + 1 ≤ kr) (hn' : nL' ≤ 20) (hlen : As.length = n) {st0 : List Value} (hst : st0 = As.reverse ++ rest) (hcat : (rest.map fun v => v.category).sum ≤ 8)
    (kk : GJ X nL (mWo g H0) Q (kf ()) (pc + 3) L rest) : GJ X nL (mWo g H0) Q (pbnd f kf) pc L st0 := mj_callS C K hd hM hT hy hR hk hn' hlen hst hcat (fun _ => kk)
/-- a method's start -/
theorem mj_start {l : Launch} {y : MethodName} {yc : ByteArray} {nL : Nat} {ret : Option FieldType} {k : Nat} {As : List Value} {f : MM α} {rv : α → Option Value} (hy : plainName y.cls = true) (hc : y.cls = RX5) (hl : (lg_sl As).length ≤ nL)
    (body : ∀ (X : Cx) (Q : α → MS → Prop), cx_l X = l → GC X nL yc RX5 → mK g (cx_s X) → MR X g Q rv → cx_R X = mroom k → (cx_y X).sig.returnType = ret → GJ X nL (mWo g (cx_s X).heap) Q f 0 (lv_args 0 As) []) : MMet l g y yc nL ret k As f rv := by
  intro Q σ q
  refine Met.ofW (cc := yc) (maxL := nL) (ret := ret) hy rfl ?_
  intro p e s m args below meth c s1 B hml hv
  obtain ⟨rfl, hW, hK⟩ := hv
  have hts := atoms_spec (ws := ws_ y yc nL ret) B.pre
  have hts : ∀ w ∈ lw_all, w.before As.toArray s = true := fun w h => hts w (List.mem_cons_of_mem _ h)
  have hown : s.vm.findClass RX5 = some m.cls := by rw [← hc]; exact findClass_of_methodNamed B.named
  rw [lg_entry_eq]
  exact body (p, l, e, mroom k, s, m, As.toArray, below, meth, c, MQ below (mPost g Q rv) As.toArray s 0 0 (mA g)) Q rfl ⟨B.exec, B.bytes, hml, B.notSynchronized, hown, hts⟩ hK rfl rfl B.returns σ q s.heap [] 0 0 _ ⟨hW, va_S.rf, rfl, rfl⟩ (lv_entry As hl)
end MROWS
