/-! THE COMPONENT's ROWS, on: numbers that a type keeps, switches, texts, statics, copies. -/
theorem cat_int (x : Int32) : (Value.int x).category = 1 := rfl
theorem cat_long (x : Int64) : (Value.long x).category = 2 := rfl
theorem fin4_3 : ((3 : Fin 4) : Nat) = 3 := rfl
theorem lg_sl_len : ∀ vs : List Value, (lg_sl vs).length = (vs.map fun v => v.category).sum := by
  intro vs
  induction vs with
  | nil => rfl
  | cons v vs ih =>
    have e : lg_sl (v :: vs) = lg_sl [v] ++ lg_sl vs := by simp [lg_sl]
    rw [e, List.length_append, ih, List.map_cons, List.sum_cons]
    congr 1
    cases v <;> rfl
theorem inty_b {v : Int} (h : -128 ≤ v ∧ v < 128) : inty .byte v := by
  have e : (iI v).toInt8.toInt32 = iI v := by
    apply Int32.toInt_inj.mp
    rw [Int8.toInt_toInt32, Int32.toInt_toInt8]
    have : (iI v).toInt = v := w32_id (by omega) (by omega)
    rw [this]
    exact Int.bmod_eq_of_le (by omega) (by omega)
  refine ⟨?_, ?_⟩
  · show Value.int ((iI v).toInt8.toInt32) = _
    rw [e]
  · show (decide (-128 ≤ iI v) && decide (iI v ≤ 127)) = true
    have h1 : (-128 : Int32) ≤ iI v := by
      rw [show (-128 : Int32) = iI (-128) from rfl, iI_le, w32_id (by omega) (by omega), w32_id (by omega) (by omega)]
      exact h.1
    have h2 : iI v ≤ (127 : Int32) := by
      rw [show (127 : Int32) = iI 127 from rfl, iI_le, w32_id (by omega) (by omega), w32_id (by omega) (by omega)]
      omega
    simp [h1, h2]
section XM2
variable {S P : Type} {X : Cx} {nL : Nat} {Wd : Wo S} {Q : P} {t : S → P → Prop} {cc : ByteArray} {own : String} {pc : Nat} {L L' : List (Nat × Value)} {st : List Value} {a b : Int}
theorem gx_pzo {f : Unit → S → P → Prop} (k : (a = 0 ∨ a = 1) → GJ X nL Wd Q (f ()) pc L st) : GJ X nL Wd Q (pbnd (pzo a) f) pc L st := fun σ q => k q.1 σ q.2
theorem gx_pzc {f : Unit → S → P → Prop} (k : (0 ≤ a ∧ a < 65536) → GJ X nL Wd Q (f ()) pc L st) : GJ X nL Wd Q (pbnd (pzc a) f) pc L st := fun σ q => k q.1 σ q.2
theorem gx_pzb {f : Unit → S → P → Prop} (k : (-128 ≤ a ∧ a < 128) → GJ X nL Wd Q (f ()) pc L st) : GJ X nL Wd Q (pbnd (pzb a) f) pc L st := fun σ q => k q.1 σ q.2
theorem gj_lookup (C : GC X nL cc own) {dflt off : Int} {ps : Array (Int × Int)} {len tgt : Nat} (hd : decode cc pc = .ok (.lookupswitch dflt ps, len)) (hp : (ps.toList.zip (ps.toList.drop 1)).all (fun (a, next) => a.1 < next.1) = true) (ho : Op.lookupswitch.offset ps.toList dflt (w32 a) = off) (ht : (pc : Int) + off = (tgt : Int)) (k : GJ X nL Wd Q t tgt L st) : GJ X nL Wd Q t pc L (.int (iI a) :: st) := fun σ q H locs cs ss ls w l => lv_lookup C.1 C.2.1 hd hp ho ht (k σ q H locs cs ss ls w l)
theorem gj_ixor (C : GC X nL cc own) (hd : decode cc pc = .ok (.ixor, 1)) (k : GJ X nL Wd Q t (pc + 1) L (.int (iI (zxor a b)) :: st)) : GJ X nL Wd Q t pc L (.int (iI b) :: .int (iI a) :: st) := fun σ q H locs cs ss ls w l => lv_ixor C.1 C.2.1 hd (by have h := k σ q H locs cs ss ls w l; rw [show iI (zxor a b) = iI a ^^^ iI b from iI_toInt _] at h; exact h)
theorem gj_dup_x2 (C : GC X nL cc own) {va vb vd : Value} (hd : decode cc pc = .ok (.dup_x2, 1)) (hva : va.category = 1) (hvb : vb.category = 1) (hvd : vd.category = 1) (k : GJ X nL Wd Q t (pc + 1) L (va :: vb :: vd :: va :: st)) : GJ X nL Wd Q t pc L (va :: vb :: vd :: st) := fun σ q H locs cs ss ls w l => lv_dup_x2 C.1 C.2.1 hd hva hvb hvd (k σ q H locs cs ss ls w l)
end XM2
section XM3
variable {α P : Type} {X : Cx} {g : XG} {nL : Nat} {σ0 : Hp} {H0 : Heap} {Q : P} {cc : ByteArray} {own : String} {pc : Nat} {L L' : List (Nat × Value)} {st : List Value} {a b : Int} {r q : Option Nat} {t : Hp → P → Prop}
theorem gx_bret {Q : Int → Hp → Prop} (C : GC X nL cc own) (hQ : XR X g σ0 Q rvI) (hr : (cx_y X).sig.returnType = some .byte) (hd : decode cc pc = .ok (.ireturn, 1)) : GJ X nL (xWo g σ0 (cx_s X).heap) Q (pbnd (pzb a) (fun _ => pret a)) pc L [.int (iI a)] := fun σ h => gx_nret C hQ hr (inty_b h.1) hd σ h.2
/-! statics -/
theorem gx_gsCS (C : GC X nL cc own) (E : XE X g σ0) {i : Nat} (hd : decode cc pc = .ok (.getstatic i, 3)) (hl : Cond.fieldLink own i "java/lang/String" "COMPACT_STRINGS" "Z" ∈ lw_all) (k : GJ X nL (xWo g σ0 (cx_s X).heap) Q t (pc + 3) L (.int (iI 1) :: st)) : GJ X nL (xWo g σ0 (cx_s X).heap) Q t pc L st :=
  fun σ q H locs cs ss ls w l => va_gets C.1 C.2.1 E.2.2.2.2.1.2.2.1 w.2.1 C.2.2.2.2.1 (C.2.2.2.2.2 _ hl) (fun _ h => h) hd (k σ q H locs cs ss ls w l)
theorem gx_gsEE (C : GC X nL cc own) (E : XE X g σ0) {i : Nat} (hd : decode cc pc = .ok (.getstatic i, 3)) (hl : Cond.fieldLink own i "java/util/ArrayList" "EMPTY_ELEMENTDATA" "[Ljava/lang/Object;" ∈ lw_all) (k : GJ X nL (xWo g σ0 (cx_s X).heap) Q t (pc + 3) L (rv g (some (CB + 200)) :: st)) : GJ X nL (xWo g σ0 (cx_s X).heap) Q t pc L st :=
  fun σ q H locs cs ss ls w l => va_gets C.1 C.2.1 E.2.2.2.2.1.2.2.2.1 w.2.1 C.2.2.2.2.1 (C.2.2.2.2.2 _ hl) (fun _ h => h) hd (k σ q H locs cs ss ls w l)
theorem gx_gsSF (C : GC X nL cc own) (E : XE X g σ0) {i : Nat} {f : Option Nat → Hp → P → Prop} (hd : decode cc pc = .ok (.getstatic i, 3)) (hl : Cond.fieldLink own i "jdk/internal/util/Preconditions" "SIOOBE_FORMATTER" "Ljava/util/function/BiFunction;" ∈ lw_all) (k : ∀ v, GJ X nL (xWo g σ0 (cx_s X).heap) Q (f v) (pc + 3) L (rv g v :: st)) : GJ X nL (xWo g σ0 (cx_s X).heap) Q (pbnd xopq f) pc L st := by
  intro σ q H locs cs ss ls w l
  obtain ⟨v, hv⟩ := E.2.2.2.2.1.2.2.2.2.1
  exact va_gets C.1 C.2.1 hv w.2.1 C.2.2.2.2.1 (C.2.2.2.2.2 _ hl) (fun _ h => h) hd (k v σ (q v) H locs cs ss ls w l)
theorem gx_gsUS (C : GC X nL cc own) (E : XE X g σ0) {i : Nat} {f : Option Nat → Hp → P → Prop} (hd : decode cc pc = .ok (.getstatic i, 3)) (hl : Cond.fieldLink own i "java/lang/Throwable" "UNASSIGNED_STACK" "[Ljava/lang/StackTraceElement;" ∈ lw_all) (k : ∀ v, GJ X nL (xWo g σ0 (cx_s X).heap) Q (f v) (pc + 3) L (rv g v :: st)) : GJ X nL (xWo g σ0 (cx_s X).heap) Q (pbnd xopq f) pc L st := by
  intro σ q H locs cs ss ls w l
  obtain ⟨v, hv⟩ := E.2.2.2.2.1.2.2.2.2.2.1
  exact va_gets C.1 C.2.1 hv w.2.1 C.2.2.2.2.1 (C.2.2.2.2.2 _ hl) (fun _ h => h) hd (k v σ (q v) H locs cs ss ls w l)
theorem gx_gsSS (C : GC X nL cc own) (E : XE X g σ0) {i : Nat} {f : Option Nat → Hp → P → Prop} (hd : decode cc pc = .ok (.getstatic i, 3)) (hl : Cond.fieldLink own i "java/lang/Throwable" "SUPPRESSED_SENTINEL" "Ljava/util/List;" ∈ lw_all) (k : ∀ v, GJ X nL (xWo g σ0 (cx_s X).heap) Q (f v) (pc + 3) L (rv g v :: st)) : GJ X nL (xWo g σ0 (cx_s X).heap) Q (pbnd xopq f) pc L st := by
  intro σ q H locs cs ss ls w l
  obtain ⟨v, hv⟩ := E.2.2.2.2.1.2.2.2.2.2.2.1
  exact va_gets C.1 C.2.1 hv w.2.1 C.2.2.2.2.1 (C.2.2.2.2.2 _ hl) (fun _ h => h) hd (k v σ (q v) H locs cs ss ls w l)
/-! texts -/
theorem real_CB {g : XG} (i : Nat) : real g (CB + i) = g.2.2.2 i := by
  unfold real
  rw [if_neg (by omega), Nat.add_sub_cancel_left]
theorem gx_kgR (C : GC X nL cc own) (E : XE X g σ0) {i : Nat} {f : Option Nat → Hp → P → Prop} (hd : decode cc pc = .ok (.getfield i, 3)) (hl : Cond.fieldLink own i "java/lang/String" "value" "[B" ∈ lw_all) (k9 : ∀ v, GJ X nL (xWo g σ0 (cx_s X).heap) Q (f v) (pc + 3) L (rv g v :: st)) : GJ X nL (xWo g σ0 (cx_s X).heap) Q (pbnd (xkgR r) f) pc L (rv g r :: st) := by
  intro σ ⟨p, e, ht, q⟩ H locs cs ss ls w l
  subst e
  obtain ⟨j, hj, rfl, e1, e2⟩ := w.1.2.2.2.2.2.2.1 p ht
  have h := (E.2.2.2.2.1.1.1 j hj).2.2.1
  rw [e1] at q
  have k1 := k9 _ σ q H locs cs ss ls w l
  show W _ _ _ _ _ _ _ _ _ _ _ _ _ _ _ (F0 _ pc ls (.ref (real g (CB + j)) :: st))
  rw [real_CB]
  refine vk_getf C.1 C.2.1 h w.2.1 C.2.2.2.2.1 (C.2.2.2.2.2 _ hl) (fun _ h => h) hd ?_
  have e9 : Value.ref (g.2.2.2 (100 + j)) = rv g (some (CB + 100 + j)) := by
    show _ = Value.ref (real g (CB + 100 + j))
    rw [Nat.add_assoc, real_CB]
  rw [e9]
  exact k1
theorem gx_kgI (C : GC X nL cc own) (E : XE X g σ0) {i : Nat} {f : Int → Hp → P → Prop} (hd : decode cc pc = .ok (.getfield i, 3)) (hl : Cond.fieldLink own i "java/lang/String" "coder" "B" ∈ lw_all) (k9 : ∀ v, GJ X nL (xWo g σ0 (cx_s X).heap) Q (f v) (pc + 3) L (.int (iI v) :: st)) : GJ X nL (xWo g σ0 (cx_s X).heap) Q (pbnd (xkgI r) f) pc L (rv g r :: st) := by
  intro σ ⟨p, e, ht, q⟩ H locs cs ss ls w l
  subst e
  obtain ⟨j, hj, rfl, e1, e2⟩ := w.1.2.2.2.2.2.2.1 p ht
  have h := (E.2.2.2.2.1.1.1 j hj).2.1
  have k1 := k9 _ σ q H locs cs ss ls w l
  show W _ _ _ _ _ _ _ _ _ _ _ _ _ _ _ (F0 _ pc ls (.ref (real g (CB + j)) :: st))
  rw [real_CB]
  exact vk_getf C.1 C.2.1 h w.2.1 C.2.2.2.2.1 (C.2.2.2.2.2 _ hl) (fun _ h => h) hd k1
theorem kb32_at (i j : Nat) (hi : i < 13) (hj : j < klen i) : (kb32.getD i []).getD j 0 = iI (kbyt i j) := by
  have h : ∀ i, i < 13 → ∀ j, j < klen i → (kb32.getD i []).getD j 0 = iI (kbyt i j) := by decide +kernel
  exact h i hi j hj
theorem gx_kbald (C : GC X nL cc own) (E : XE X g σ0) {f : Int → Hp → P → Prop} (hd : decode cc pc = .ok (.baload, 1)) (k9 : ∀ v, GJ X nL (xWo g σ0 (cx_s X).heap) Q (f v) (pc + 1) L (.int (iI v) :: st)) : GJ X nL (xWo g σ0 (cx_s X).heap) Q (pbnd (xld r 48 a) f) pc L (.int (iI a) :: rv g r :: st) := by
  intro σ ⟨p, e, ht, hin, q⟩ H locs cs ss ls w l
  subst e
  obtain ⟨j, hj, rfl, e1, e2⟩ := w.1.2.2.2.2.2.2.2 p ht
  have h := (E.2.2.2.2.1.1.1 j hj).2.2.2
  rw [e1] at hin
  have hlt : (w32 a).toNat < klen j := by omega
  rw [e2 _ hlt] at q
  have k1 := k9 _ σ q H locs cs ss ls w l
  show W _ _ _ _ _ _ _ _ _ _ _ _ _ _ _ (F0 _ pc ls (.int (iI a) :: .ref (real g (CB + 100 + j)) :: st))
  rw [Nat.add_assoc, real_CB]
  exact va_tb C.1 C.2.1 h w.2.1 (vp_in_w hin) (v := .int (iI (kbyt j (w32 a).toNat))) (by show Value.int _ = _; rw [iI_clamp, kb32_at _ _ hj hlt]) hd k1
theorem gx_klen (C : GC X nL cc own) (E : XE X g σ0) {f : Int → Hp → P → Prop} (hd : decode cc pc = .ok (.arraylength, 1)) (k9 : ∀ v, GJ X nL (xWo g σ0 (cx_s X).heap) Q (f v) (pc + 1) L (.int (iI v) :: st)) : GJ X nL (xWo g σ0 (cx_s X).heap) Q (pbnd (xklen r) f) pc L (rv g r :: st) := by
  intro σ ⟨p, e, ht, q⟩ H locs cs ss ls w l
  subst e
  obtain ⟨j, hj, rfl, e1, e2⟩ := w.1.2.2.2.2.2.2.2 p ht
  have h := (E.2.2.2.2.1.1.1 j hj).2.2.2
  rw [e1] at q
  have k1 := k9 _ σ q H locs cs ss ls w l
  show W _ _ _ _ _ _ _ _ _ _ _ _ _ _ _ (F0 _ pc ls (.ref (real g (CB + 100 + j)) :: st))
  rw [Nat.add_assoc, real_CB]
  exact va_tlen C.1 C.2.1 h w.2.1 (v := iI (klen j)) Int32.ofInt_eq_ofNat.symm hd k1
/-- a call through a text -/
theorem gx_callKI (C : GC X nL cc own) (E : XE X g σ0) {f : PT Hp Int} {kf : Int → Hp → P → Prop} {As rest : List Value} {k n i : Nat} {y : MethodName} {yc : ByteArray} {nL' : Nat} {ret : Option FieldType}
    (hd : decode cc pc = .ok (.invokevirtual i, 3)) (hM : XMet (cx_l X) g y yc nL' ret k (rv g r :: As) f rvI) (hT : GoodIn lw_all (wsV own i y.cls y (ws_ y yc nL' ret))) (hy : y.cls ≠ "java/lang/invoke/MethodHandle" ∧ y.cls ≠ "java/lang/invoke/VarHandle" ∧ (parseMethodDescriptor y.desc).map (fun d => d.parameters.length) = some n) (hcl : "java/lang/String" = y.cls) {k0 : Nat} (hR : k0 ≤ (cx_R X).frames ∧ 40 * k0 ≤ (cx_R X).locals) (hk : k + 1 ≤ k0) (hn' : nL' ≤ 20) (hlen : As.length = n) {st0 : List Value} (hst : st0 = As.reverse ++ rv g r :: rest) (hcat : (rest.map fun v => v.category).sum ≤ 8)
    (kk : ∀ r9, GJ X nL (xWo g σ0 (cx_s X).heap) Q (kf r9) (pc + 3) L (.int (iI r9) :: rest)) : GJ X nL (xWo g σ0 (cx_s X).heap) Q (pbnd (xrecv r 29) (fun _ => pbnd f kf)) pc L st0 := by
  subst hst
  intro σ ⟨p, e, ht, q⟩ H locs cs ss ls w l
  subst e
  refine gx_run (rw9 := rvI) (f := fun σ Q' => h_tg σ p = 29 ∧ f σ Q') (As := rv g (some p) :: As) (k := k) (y := y) (yc := yc) (nL' := nL') (ret := ret) E (fun σ Q' H locs cs ss ls q w l => ?_) kk σ ⟨ht, q⟩ H locs cs ss ls w l
  obtain ⟨ht, q⟩ := q
  obtain ⟨j, hj, rfl, -, -⟩ := w.1.2.2.2.2.2.2.1 p ht
  have hrec : ∃ cell : Cell, H[real g (CB + j)]? = some cell ∧ cell.vm.isStatics = false ∧ (cx_s X).vm.findClass y.cls = some cell.cls := by
    rw [real_CB, ← hcl]
    exact vk_recv E.2.2.2.2.1.1 hj w.2.1
  exact va_runV (nL := nL) (As := As) (rest := rest) ⟨C.1, C.2.1, C.2.2.1, C.2.2.2.2.1, C.2.2.2.2.2⟩ (hM Q' σ q) (cwV n C.2.2.2.2.2 hT rfl rfl rfl ⟨rfl, hy⟩ (xRoom E hR hk hn' σ)) ⟨xPc_blind _ σ, hrec, fun U hU hW => ⟨rfl, xPre E w hU hW⟩⟩ rfl hlen l.1 rfl (lv_room hcat) hd (xFit E w)
/-! references compared; instanceof -/
theorem rv_inj {g : XG} {r q : Option Nat} (h : r = q ∨ ((∀ p, r = some p → p < CB) ∧ ∀ p, q = some p → p < CB)) : r.map (real g) = q.map (real g) ↔ r = q := by
  constructor
  · intro e
    rcases h with h | ⟨h1, h2⟩
    · exact h
    · cases r with
      | none => cases q with
        | none => rfl
        | some y => cases e
      | some x => cases q with
        | none => cases e
        | some y =>
          have e1 := Option.some.inj e
          unfold real at e1
          rw [if_pos (h1 x rfl), if_pos (h2 y rfl)] at e1
          rw [Nat.add_left_cancel e1]
  · intro e
    rw [e]
variable {off : Int} {tgt : Nat}
theorem gx_acmp_eq (C : GC X nL cc own) (hd : decode cc pc = .ok (.if_acmp .eq off, 3)) (ht : (pc : Int) + off = (tgt : Int)) (kt : r = q → GJ X nL (xWo g σ0 H0) Q t tgt L st) (kf : ¬ r = q → GJ X nL (xWo g σ0 H0) Q t (pc + 3) L st) : GJ X nL (xWo g σ0 H0) Q (pbnd (xcmp r q) (fun _ => t)) pc L (rv g q :: rv g r :: st) := by
  intro σ ⟨hc, h⟩ H locs cs ss ls w l
  exact lv_acmp_eq C.1 C.2.1 hd ht (fun e => kt ((rv_inj hc).mp e) σ h H locs cs ss ls w l) (fun e => kf (fun z => e ((rv_inj hc).mpr z)) σ h H locs cs ss ls w l)
theorem gx_acmp_ne (C : GC X nL cc own) (hd : decode cc pc = .ok (.if_acmp .ne off, 3)) (ht : (pc : Int) + off = (tgt : Int)) (kt : ¬ r = q → GJ X nL (xWo g σ0 H0) Q t tgt L st) (kf : r = q → GJ X nL (xWo g σ0 H0) Q t (pc + 3) L st) : GJ X nL (xWo g σ0 H0) Q (pbnd (xcmp r q) (fun _ => t)) pc L (rv g q :: rv g r :: st) := by
  intro σ ⟨hc, h⟩ H locs cs ss ls w l
  exact lv_acmp_ne C.1 C.2.1 hd ht (fun e => kt (fun z => e ((rv_inj hc).mpr z)) σ h H locs cs ss ls w l) (fun e => kf ((rv_inj hc).mp e) σ h H locs cs ss ls w l)
theorem gx_inst (C : GC X nL cc own) (E : XE X g σ0) {i : Nat} {nm : String} {t0 : Nat} {r0 : vw_C} (hr : xcl[t0]? = some r0) (hnm : r0.1 = nm) (hd : decode cc pc = .ok (.instanceof i, 3)) (hl : Cond.classLink own i nm ∈ lw_all) (k9 : GJ X nL (xWo g σ0 H0) Q t (pc + 3) L (.int (iI 1) :: st)) : GJ X nL (xWo g σ0 H0) Q (pbnd (xrecv r t0) (fun _ => t)) pc L (rv g r :: st) := by
  intro σ ⟨p, e, ht, q⟩ H locs cs ss ls w l
  subst e
  exact va_instE C.1 C.2.1 C.2.2.2.2.1 (C.2.2.2.2.2 _ hl) (by rw [← hnm]; exact x_recv E.1 w.1 ht hr) hd (k9 σ q H locs cs ss ls w l)
end XM3
