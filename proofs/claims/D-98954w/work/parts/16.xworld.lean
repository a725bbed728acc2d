/-! HOW THE COMPONENT's PURE HEAP LIES IN THE MACHINE's. -/
/-- the ground: field places, array classes, the first new address, where what was there before lies -/
abbrev XG : Type := va_G × (Nat → ClassId) × Nat × (Nat → Nat)
def real (g : XG) (p : Nat) : Nat := if p < CB then g.2.2.1 + p else g.2.2.2 (p - CB)
def rv (g : XG) (r : Option Nat) : Value := va_rf (r.map (real g))
def xtyL (g : XG) : List (ClassId × FieldType) := [(g.2.1 0, .int), (g.2.1 1, .long), (g.2.1 2, .boolean), (g.2.1 3, .byte), (g.2.1 4, .object "java/lang/Object"), (g.2.1 5, .object "BorrowedLives$State"), (g.2.1 6, .object "BorrowedLives$Mark"), (g.2.1 7, .array .int)]
/-- a cell: its class, its size, its values by place -/
def XAt (H : Heap) (a : Nat) (c : ClassId) (n : Nat) (iS : Nat → Nat) (V : Nat → Value) : Prop :=
  ∃ cell : Cell, H[a]? = some cell ∧ cell.cls = c ∧ cell.vm = .none ∧ cell.slots.size = n ∧ ∀ k, k < n → cell.slots[iS k]? = some (V k)
def xkd (t k : Nat) : Nat := if t < 40 then fkd t k else if t = 41 then 1 else if 44 ≤ t then 2 else 0
def xval (g : XG) (t : Nat) (I : Nat → Int) (R : Nat → Option Nat) (k : Nat) : Value := match xkd t k with
  | 0 => .int (iI (I k))
  | 1 => .long (iL (I k))
  | _ => rv g (R k)
def xcid (g : XG) (t : Nat) : ClassId := if t < 40 then g.1.1 t else g.2.1 (t - 40)
def xis (g : XG) (t : Nat) : Nat → Nat := if t < 40 then g.1.2 t else id
def xsz (t n : Nat) : Nat := if t < 40 then fnum t else n
def live (t : Nat) : Prop := t < 29 ∨ (40 ≤ t ∧ t < 48)
def XCellA (g : XG) (σ : Hp) (H : Heap) (p : Nat) : Prop := XAt H (g.2.2.1 + p) (xcid g (h_tg σ p)) (xsz (h_tg σ p) (h_ln σ p)) (xis g (h_tg σ p)) (xval g (h_tg σ p) (h_I σ p) (h_R σ p))
/-- a cell's other parts are as they were born -/
def Pl (c : Cell) : Prop := c.monitor = {} ∧ c.hash = none
def XPl (H : Heap) (a : Nat) : Prop := ∃ cell : Cell, H[a]? = some cell ∧ Pl cell
theorem XPl.kept {H H1 : Heap} {a : Nat} (h : XPl H a) (e : H1[a]? = H[a]?) : XPl H1 a := by
  obtain ⟨c, h1, h2⟩ := h
  exact ⟨c, by rw [e]; exact h1, h2⟩
def XCell (g : XG) (σ : Hp) (H : Heap) (p : Nat) : Prop := XCellA g σ H p ∧ XPl H (g.2.2.1 + p)
def XWd (g : XG) (σ : Hp) (H : Heap) : Prop :=
  H.size = g.2.2.1 + h_nx σ ∧ h_nx σ ≤ CAPN ∧ h_us σ ≤ CAPS ∧ (∀ p, live (h_tg σ p) → p < h_nx σ ∧ XCell g σ H p) ∧
  (∀ p, p < h_nx σ → ∃ cell : Cell, H[g.2.2.1 + p]? = some cell ∧ cell.slots.size = xsz (h_tg σ p) (h_ln σ p)) ∧ h_us σ = sumTo (fun p => xsz (h_tg σ p) (h_ln σ p)) (h_nx σ) ∧ CI σ
def xA (g : XG) : Nat → Prop := fun q => g.2.2.1 ≤ q
/-- the words of nest mates, casts, declared methods: those that don't ride in the lists -/
def isN (w : Cond) : Bool := match w with
  | .fieldLinkNest .. => true
  | .methodLinkNest .. => true
  | .castable .. => true
  | .declares _ => true
  | _ => false
def XN (U : State) : Prop := ∀ w ∈ lw_tbl, isN w = true → va_Nw w U
def XOA (U : State) : Prop := (Cond.arrayOver (.array .int)).before #[] U = true
theorem XOA.moved {u U : State} (hvm : u.vm.Alike U.vm) (h : XOA u) : XOA U := by
  obtain ⟨comp, c, k, h1, h3, h4, h5⟩ := Cond.arrayOver_specA h
  unfold XOA Cond.before Cond.holds at h ⊢
  simp only [Cond.value] at h ⊢
  rw [hvm.findClass]
  rw [h1, Option.bind_some] at h ⊢
  have hb : (U.vm.classes.findIdx? fun (x : Class) => match x.kind with | .array component _ => component == comp | _ => false) = (u.vm.classes.findIdx? fun (x : Class) => match x.kind with | .array component _ => component == comp | _ => false) := by
    refine (va_idx_bare U.vm comp).symm.trans (Eq.trans ?_ (va_idx_bare u.vm comp))
    first | rw [hvm.bare_eq] | rw [← hvm.bare_eq]
  have h' : ((u.vm.classes.findIdx? fun (x : Class) => match x.kind with | .array component _ => component == comp | _ => false).bind (fun c => (u.vm.classes[c]?).map fun (k : Class) => match k.kind with | .array _ ty => decide (ty = FieldType.array .int) && decide (u.vm.findClass ("[" ++ (FieldType.array .int).toString) = some c) | _ => false) == some true) = true := h
  refine (congrArg (fun o : Option Nat => (o.bind (fun c => (U.vm.classes[c]?).map fun (k : Class) => match k.kind with | .array _ ty => decide (ty = FieldType.array .int) && decide (U.vm.findClass ("[" ++ (FieldType.array .int).toString) = some c) | _ => false) == some true)) hb).trans ?_
  revert h'
  generalize (u.vm.classes.findIdx? fun (x : Class) => match x.kind with | .array component _ => component == comp | _ => false) = oi
  intro h'
  cases oi with
  | none => simp at h'
  | some c' =>
    simp only [Option.bind_some] at h' ⊢
    cases hk : u.vm.classes[c']? with
    | none => rw [hk] at h'; simp at h'
    | some k0 =>
      obtain ⟨k', hk', he⟩ := hvm.2.2 _ _ hk
      rw [hk] at h'
      rw [hk']
      simp only [Option.map_some] at h' ⊢
      rw [hvm.findClass, he]
      exact h'
/-- a private method found through a class below its own -/
def selEC : Cond := .selects "java/lang/StringBuilder" ⟨"java/lang/AbstractStringBuilder", "ensureCapacityInternal", "(I)V"⟩ ⟨"java/lang/AbstractStringBuilder", "ensureCapacityInternal", "(I)V"⟩
def XSl (U : State) : Prop := va_Nw selEC U
theorem selEC_good : GoodIn [selEC] [selEC] := fun w hw => ⟨hw, Or.inl (by rw [List.mem_singleton.mp hw]; rfl)⟩
theorem XSl.warm {s U : State} (hW : s.WarmedH U.vm) (h : XSl s) : XSl U := pay_in (args := #[]) (big := [selEC]) (fun w hw => by rw [List.mem_singleton.mp hw]; exact h) selEC_good selEC (List.mem_singleton.mpr rfl) #[] U hW
def XO (U : State) : Prop := va_AO "java/lang/Object" U ∧ va_AO "BorrowedLives$State" U ∧ va_AO "BorrowedLives$Mark" U ∧ XOA U ∧ XSl U
/-- what the tables say of the classes -/
def XK (g : XG) (U : State) : Prop := va_K g.1 xcl (xtyL g) U ∧ XN U ∧ XO U
theorem XN.warm {s U : State} (hW : s.WarmedH U.vm) (h : XN s) : XN U := by
  intro w hw hn
  have h1 := h w hw hn
  cases w <;> first | exact va_Nw.warmF hW h1 | exact va_Nw.warmM hW h1 | exact va_Nw.warmC hW h1 | exact va_Nw.warmD hW h1 | (exfalso; simp [isN] at hn; done)
theorem isN_tab {w : Cond} (h : isN w = true) : w.onTables = true := by
  cases w <;> first | rfl | (exfalso; simp [isN] at h; done)
theorem XN.same {u U : State} (e : u.vm = U.vm) (h : XN u) : XN U := fun w hw hn => va_Nw.same (isN_tab hn) e (h w hw hn)
theorem XK.warm {g : XG} {s U : State} (hW : s.WarmedH U.vm) (h : XK g s) : XK g U := ⟨va_K.moved hW.alike h.1, h.2.1.warm hW, va_AO.moved hW.alike h.2.2.1, va_AO.moved hW.alike h.2.2.2.1, va_AO.moved hW.alike h.2.2.2.2.1, XOA.moved hW.alike h.2.2.2.2.2.1, h.2.2.2.2.2.2.warm hW⟩
/-- texts and statics that were there before -/
def XCst (g : XG) (U : State) (H : Heap) : Prop :=
  vk_S 13 klens kb32 (fun i => g.2.2.2 i) (fun i => g.2.2.2 (100 + i)) (xA g) U H ∧ (∀ i, i < 13 → vk_R RX2 (kidx i) (ktx i) (g.2.2.2 i) U) ∧ va_Z "java/lang/String" "COMPACT_STRINGS" "Z" (.int 1) (xA g) U H ∧
  va_Z "java/util/ArrayList" "EMPTY_ELEMENTDATA" "[Ljava/lang/Object;" (rv g (some (CB + 200))) (xA g) U H ∧ (∃ r, va_Z "jdk/internal/util/Preconditions" "SIOOBE_FORMATTER" "Ljava/util/function/BiFunction;" (rv g r) (xA g) U H) ∧
  (∃ r, va_Z "java/lang/Throwable" "UNASSIGNED_STACK" "[Ljava/lang/StackTraceElement;" (rv g r) (xA g) U H) ∧ (∃ r, va_Z "java/lang/Throwable" "SUPPRESSED_SENTINEL" "Ljava/util/List;" (rv g r) (xA g) U H) ∧ va_Mi "[Ljava/lang/Object;" (g.2.2.2 201) U ∧
  vy_Zq Bundle.tN "UNASSIGNED_STACK" Bundle.steD (xA g) U H ∧ vy_Zq Bundle.tN "SUPPRESSED_SENTINEL" Bundle.listD (xA g) U H
theorem XCst.warm {g : XG} {s U : State} {H : Heap} (hW : s.WarmedH U.vm) (h : XCst g s H) : XCst g U H := by
  obtain ⟨h1, h2, h3, h4, ⟨r5, h5⟩, ⟨r6, h6⟩, ⟨r7, h7⟩, h8, h9, h10⟩ := h
  exact ⟨vk_S.moved hW.alike h1, fun i hi => (h2 i hi).warm hW, va_Z.moved hW.alike h3, va_Z.moved hW.alike h4, ⟨r5, va_Z.moved hW.alike h5⟩, ⟨r6, va_Z.moved hW.alike h6⟩, ⟨r7, va_Z.moved hW.alike h7⟩, va_Mi.moved hW.alike h8, vy_Zq.moved hW.alike h9, vy_Zq.moved hW.alike h10⟩
theorem XCst.same {g : XG} {u U : State} {H : Heap} (e : U.vm = u.vm) (h : XCst g u H) : XCst g U H := by
  obtain ⟨h1, h2, h3, h4, ⟨r5, h5⟩, ⟨r6, h6⟩, ⟨r7, h7⟩, h8, h9, h10⟩ := h
  have hal : u.vm.Alike U.vm := by rw [e]; exact Vm.Alike.refl _
  exact ⟨vk_S.moved hal h1, fun i hi => vk_R.same e (h2 i hi), va_Z.moved hal h3, va_Z.moved hal h4, ⟨r5, va_Z.moved hal h5⟩, ⟨r6, va_Z.moved hal h6⟩, ⟨r7, va_Z.moved hal h7⟩, va_Mi.moved hal h8, vy_Zq.moved hal h9, vy_Zq.moved hal h10⟩
theorem XCst.kept {g : XG} {U : State} {H H1 : Heap} (hq : ∀ a : Nat, a < H.size → ¬ xA g a → H1[a]? = H[a]?) (h : XCst g U H) : XCst g U H1 := by
  obtain ⟨h1, h2, h3, h4, ⟨r5, h5⟩, ⟨r6, h6⟩, ⟨r7, h7⟩, h8, h9, h10⟩ := h
  exact ⟨h1.kept hq, h2, h3.kept hq, h4.kept hq, ⟨r5, h5.kept hq⟩, ⟨r6, h6.kept hq⟩, ⟨r7, h7.kept hq⟩, h8, h9.kept hq, h10.kept hq⟩
theorem XK.same {g : XG} {u U : State} (e : u.vm = U.vm) (h : XK g u) : XK g U := by
  have hal : u.vm.Alike U.vm := by rw [← e]; exact Vm.Alike.refl _
  exact ⟨va_K.moved hal h.1, h.2.1.same e, va_AO.moved hal h.2.2.1, va_AO.moved hal h.2.2.2.1, va_AO.moved hal h.2.2.2.2.1, XOA.moved hal h.2.2.2.2.2.1, va_Nw.same rfl e h.2.2.2.2.2.2⟩
theorem XAt.kept {H H1 : Heap} {a : Nat} {c : ClassId} {n : Nat} {iS : Nat → Nat} {V : Nat → Value} (h : XAt H a c n iS V) (e : H1[a]? = H[a]?) : XAt H1 a c n iS V := by
  obtain ⟨cell, q, r⟩ := h
  exact ⟨cell, by rw [e]; exact q, r⟩
/-- a cell with one place stored -/
theorem XAt.set {H1 : Heap} {a : Nat} {c : ClassId} {n : Nat} {iS : Nat → Nat} {V V' : Nat → Value} {cell : Cell} {k : Nat} {v : Value} (h1 : cell.cls = c) (h2 : cell.vm = .none) (h3 : cell.slots.size = n) (h4 : ∀ k, k < n → cell.slots[iS k]? = some (V k))
    (hap : ∀ x y, x < n → y < n → x ≠ y → iS x ≠ iS y) (hk : k < n) (e : H1[a]? = some (cell.setSlot (iS k) v)) (hv : V' k = v) (ho : ∀ j, j < n → j ≠ k → V' j = V j) : XAt H1 a c n iS V' := by
  refine ⟨_, e, h1, h2, (k2_slotsz _ _ _).trans h3, fun j hj => ?_⟩
  have h := t_set h4 hap hk v j hj
  rw [h]
  by_cases hjk : j = k
  · subst hjk
    simp [updV, hv]
  · simp [updV, hjk, ho j hj hjk]
theorem x_isArr {s : State} {cell : Cell} {c : ClassId} {ty : FieldType} (h : ArrOfT s c ty) (h1 : cell.cls = c) (h2 : cell.vm = .none) : s.isArrayOf cell ty := by
  obtain ⟨-, k, q, r⟩ := h 0 (fun _ => .null)
  exact ⟨fun k e => (by rw [h2] at e; cases e), k, (by rw [h1]; exact q), r⟩
theorem live_lt {t : Nat} (h : t < 29) : live t := Or.inl h
theorem xcid_o {g : XG} {t : Nat} (h : t < 29) : xcid g t = g.1.1 t := by unfold xcid; rw [if_pos (by omega)]
theorem xis_o {g : XG} {t : Nat} (h : t < 29) : xis g t = g.1.2 t := by unfold xis; rw [if_pos (by omega)]
theorem xsz_o {t n : Nat} (h : t < 29) : xsz t n = fnum t := by unfold xsz; rw [if_pos (by omega)]
theorem xcid_a {g : XG} {t : Nat} : xcid g (40 + t) = g.2.1 t := by unfold xcid; rw [if_neg (by omega), Nat.add_sub_cancel_left]
theorem xis_a {g : XG} {t : Nat} : xis g (40 + t) = id := by unfold xis; rw [if_neg (by omega)]
theorem xsz_a {t n : Nat} : xsz (40 + t) n = n := by unfold xsz; rw [if_neg (by omega)]
/-- who declares a field that a class lays -/
theorem k_laid {args : Array Value} {s : State} {C O n d : String} {c i : Nat} {k : Class} {f : Field} (h : (Cond.lays C O n d).before args s = true ∨ (Cond.laysFinal C O n d).before args s = true) (hf : s.fieldFound? O n d = some (c, k, i, f)) :
    ∃ a q, s.vm.findClass C = some a ∧ Jmm.declares? s.vm f.slot (a + 1) a = some q ∧ q.1.name = O := by
  have key : s.vm.findClass O = some c → k.name = O := fun ho => by
    obtain ⟨k', h1, h2⟩ := Vm.findClass_spec ho
    cases (State.fieldFound?_spec hf).1.symm.trans h1
    exact h2
  rcases h with h | h
  · obtain ⟨a, _, c', k', _, g, ha, _, hg, _, _, _, _, q, hq, hn, _⟩ := Cond.lays_spec h
    cases hf.symm.trans hg
    exact ⟨a, q, ha, hq, hn.trans (key (Cond.lays_declared h hf))⟩
  · obtain ⟨a, _, c', k', _, g, ha, _, hg, _, _, _, ho, _, q, hq, hn, _⟩ := Cond.laysFinal_spec h
    cases hf.symm.trans hg
    exact ⟨a, q, ha, hq, hn.trans (key ho)⟩
section XFIELDS
variable {g : XG} {s : State} {args : Array Value} {t : Nat} {r : vw_C}
/-- places of a class are apart: names or owners differ -/
theorem xap (hts : ∀ w ∈ lw_all, w.before args s = true) (K : XK g s) (hr : xcl[t]? = some r) : ∀ x y, x < r.2.2 → y < r.2.2 → x ≠ y → g.1.2 t x ≠ g.1.2 t y := by
  intro x y hx hy hne e
  obtain ⟨hS, -⟩ := K.1.1 t r hr
  obtain ⟨c1, k1, i1, f1, h1, e1⟩ := hS x hx
  obtain ⟨c2, k2, i2, f2, h2, e2⟩ := hS y hy
  have l1 := u_lays hts (xin t r hr) hx
  have l2 := u_lays hts (xin t r hr) hy
  have ee : f1.slot = f2.slot := by rw [e1, e2, e]
  rcases xapart0 t r hr x hx y hy hne with h | h
  · refine u_apart l1 l2 h1 h2 ?_ ee
    rw [(State.fieldFound?_type h1 (xfty_ok t r hr x hx)).1, (State.fieldFound?_type h2 (xfty_ok t r hr y hy)).1]
    exact h
  · obtain ⟨a, q, ha, hq, hn⟩ := k_laid l1 h1
    obtain ⟨a', q', ha', hq', hn'⟩ := k_laid l2 h2
    cases ha.symm.trans ha'
    rw [ee] at hq
    cases hq.symm.trans hq'
    exact h (hn.symm.trans hn')
theorem xfld (hts : ∀ w ∈ lw_all, w.before args s = true) (K : XK g s) (hr : xcl[t]? = some r) {k : Nat} (hk : k < r.2.2) : ∃ cf kf fi fd, s.fieldFound? (r.2.1 k).1 (r.2.1 k).2.1 (r.2.1 k).2.2.1 = some (cf, kf, fi, fd) ∧ fd.slot = g.1.2 t k ∧ fd.isStatic = false := by
  obtain ⟨hS, hfc, kC, hkC, hkind⟩ := K.1.1 t r hr
  obtain ⟨cf, kf, fi, fd, hi, he⟩ := hS k hk
  exact ⟨cf, kf, fi, fd, hi, he, (u_facts hfc hkC (u_lays hts (xin t r hr) hk) hi).1⟩
end XFIELDS
theorem xcl_lt {t : Nat} {r : vw_C} (h : xcl[t]? = some r) : t < 29 := (List.getElem?_eq_some_iff.mp h).1
theorem CAPN_CB : CAPN < CB := by decide
theorem real_lt {g : XG} {p n : Nat} (h : p < n) (hn : n ≤ CAPN) : real g p = g.2.2.1 + p := by
  unfold real
  rw [if_pos (Nat.lt_of_lt_of_le h (Nat.le_trans hn (Nat.le_of_lt CAPN_CB)))]
/-- an object's cell -/
theorem XWd.obj {g : XG} {σ : Hp} {H : Heap} {p t : Nat} (w : XWd g σ H) (ht : h_tg σ p = t) (h : t < 29) : real g p = g.2.2.1 + p ∧ p < h_nx σ ∧ XAt H (g.2.2.1 + p) (g.1.1 t) (fnum t) (g.1.2 t) (xval g t (h_I σ p) (h_R σ p)) := by
  obtain ⟨hs, hn, -, hc, -⟩ := w
  obtain ⟨hp, hx, -⟩ := hc p (by rw [ht]; exact live_lt h)
  unfold XCellA at hx
  rw [ht, xcid_o h, xis_o h, xsz_o h] at hx
  exact ⟨real_lt hp hn, hp, hx⟩
/-- an array's cell -/
theorem XWd.arr {g : XG} {σ : Hp} {H : Heap} {p t : Nat} (w : XWd g σ H) (ht : h_tg σ p = 40 + t) (h : t < 8) : real g p = g.2.2.1 + p ∧ p < h_nx σ ∧ XAt H (g.2.2.1 + p) (g.2.1 t) (h_ln σ p) id (xval g (40 + t) (h_I σ p) (h_R σ p)) := by
  obtain ⟨hs, hn, -, hc, -⟩ := w
  obtain ⟨hp, hx, -⟩ := hc p (by rw [ht]; exact Or.inr ⟨by omega, by omega⟩)
  unfold XCellA at hx
  rw [ht, xcid_a, xis_a, xsz_a] at hx
  exact ⟨real_lt hp hn, hp, hx⟩
/-- a cell of the heap stored into: the new world -/
theorem XWd.put {g : XG} {σ σ' : Hp} {H H1 : Heap} {p i : Nat} {v : Value} {cell : Cell} (w : XWd g σ H) (hp : p < h_nx σ) (htg : h_tg σ' = h_tg σ) (hln : h_ln σ' = h_ln σ) (hnx : h_nx σ' = h_nx σ) (hus : h_us σ' = h_us σ)
    (hI : ∀ q, q ≠ p → h_I σ' q = h_I σ q) (hR : ∀ q, q ≠ p → h_R σ' q = h_R σ q) (hcell : H[g.2.2.1 + p]? = some cell) (e1 : H1[g.2.2.1 + p]? = some (cell.setSlot i v)) (e2 : H1.size = H.size) (e3 : ∀ q, q ≠ g.2.2.1 + p → H1[q]? = H[q]?)
    (hx : live (h_tg σ p) → XCellA g σ' H1 p) : XWd g σ' H1 := by
  obtain ⟨hs, hn, hu, hc, hz, hsum, hCI⟩ := w
  have ne : ∀ q, q ≠ p → H1[g.2.2.1 + q]? = H[g.2.2.1 + q]? := fun q hq => e3 _ (by omega)
  refine ⟨by rw [e2, hs, hnx], by rw [hnx]; exact hn, by rw [hus]; exact hu, fun q hq => ?_, fun q hq => ?_, by rw [hus, hnx, htg, hln]; exact hsum, ?_⟩
  · rw [htg] at hq
    by_cases hqp : q = p
    · subst hqp
      obtain ⟨-, -, c9, y1, y2⟩ := hc q hq
      cases hcell.symm.trans y1
      exact ⟨by rw [hnx]; exact hp, hx hq, _, e1, y2⟩
    · obtain ⟨h1, h2, h3⟩ := hc q hq
      refine ⟨by rw [hnx]; exact h1, ?_, h3.kept (ne q hqp)⟩
      unfold XCellA at h2 ⊢
      rw [htg, hln, hI q hqp, hR q hqp]
      exact h2.kept (ne q hqp)
  · rw [hnx] at hq
    rw [htg, hln]
    obtain ⟨c, h1, h2⟩ := hz q hq
    by_cases hqp : q = p
    · subst hqp
      cases hcell.symm.trans h1
      exact ⟨_, e1, (k2_slotsz _ _ _).trans h2⟩
    · exact ⟨c, by rw [ne q hqp]; exact h1, h2⟩
  · have hpB : p < CB := Nat.lt_of_lt_of_le hp (Nat.le_trans hn (Nat.le_of_lt CAPN_CB))
    refine ⟨fun q hq => ?_, fun q hq => ?_⟩
    · rw [htg] at hq
      obtain ⟨i, hi, e, r⟩ := hCI.1 q hq
      have : q ≠ p := by omega
      exact ⟨i, hi, e, by rw [hR q this, hI q this]; exact r⟩
    · rw [htg] at hq
      obtain ⟨i, hi, e, r⟩ := hCI.2 q hq
      have : q ≠ p := by omega
      exact ⟨i, hi, e, by rw [hln, hI q this]; exact r⟩
theorem up2_row {f : Nat → Nat → Int} {p k q : Nat} {v : Int} (h : q ≠ p) : up2 f p k v q = f q := funext fun b => by simp [up2, h]
theorem upR_row {f : Nat → Nat → Option Nat} {p k q : Nat} {v : Option Nat} (h : q ≠ p) : upR f p k v q = f q := funext fun b => by simp [upR, h]
theorem up2_self {f : Nat → Nat → Int} {p k : Nat} {v : Int} : up2 f p k v p k = v := by simp [up2]
theorem up2_col {f : Nat → Nat → Int} {p k j : Nat} {v : Int} (h : j ≠ k) : up2 f p k v p j = f p j := by simp [up2, h]
theorem upR_self {f : Nat → Nat → Option Nat} {p k : Nat} {v : Option Nat} : upR f p k v p k = v := by simp [upR]
theorem upR_col {f : Nat → Nat → Option Nat} {p k j : Nat} {v : Option Nat} (h : j ≠ k) : upR f p k v p j = f p j := by simp [upR, h]
