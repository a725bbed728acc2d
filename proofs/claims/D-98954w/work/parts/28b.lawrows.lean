/-! THE LAW's ROWS: its script, calls of methods with handlers, its end. -/
/-- a script's int -/
def xsl (L : Nat) (xs : Nat → Int32) (i : Int) : PT Hp Int := fun σ Q => (0 ≤ w32 i ∧ w32 i < L) ∧ Q (xs (w32 i).toNat).toInt σ
section LROWS
variable {α P : Type} {X : Cx} {g : XG} {nL : Nat} {σ0 : Hp} {H0 : Heap} {Q : P} {cc : ByteArray} {own : String} {pc : Nat} {L L' : List (Nat × Value)} {st : List Value} {a : Int} {r q : Option Nat} {t : Hp → P → Prop} {b Ls : Nat} {xs : Nat → Int32}
theorem gl_sld (C : GC X nL cc own) (hX : va_X b Ls xs (cx_s X) (cx_s X).heap) (hbl : b < (cx_s X).heap.size) (hbA : ¬ xA g b) {f : Int → Hp → P → Prop} (hd : decode cc pc = .ok (.iaload, 1)) (k : ∀ v, GJ X nL (xWo g σ0 (cx_s X).heap) Q (f v) (pc + 1) L (.int (iI v) :: st)) : GJ X nL (xWo g σ0 (cx_s X).heap) Q (pbnd (xsl Ls xs a) f) pc L (.int (iI a) :: .ref b :: st) := by
  intro σ ⟨hin, h⟩ H locs cs ss ls w l
  refine va_sld C.1 C.2.1 hX hbl hbA w.2.1 (vp_in_w hin) hd ?_
  have := k _ σ h H locs cs ss ls w l
  rw [iI_toInt] at this
  exact this
theorem gl_slen (C : GC X nL cc own) (hX : va_X b Ls xs (cx_s X) (cx_s X).heap) (hbl : b < (cx_s X).heap.size) (hbA : ¬ xA g b) (hd : decode cc pc = .ok (.arraylength, 1)) (k : GJ X nL (xWo g σ0 (cx_s X).heap) Q t (pc + 1) L (.int (iI (Ls : Int)) :: st)) : GJ X nL (xWo g σ0 (cx_s X).heap) Q t pc L (.ref b :: st) := by
  intro σ h H locs cs ss ls w l
  refine va_slen C.1 C.2.1 hX hbl hbA w.2.1 hd ?_
  have := k σ h H locs cs ss ls w l
  rw [show Int32.ofNat Ls = iI (Ls : Int) from Int32.ofInt_eq_ofNat.symm]
  exact this
/-- the law's end, with true -/
theorem gl_ret (C : GC X 7 code R_law) (hm : cx_R X = room_1) (hargs : cx_a X = #[Value.ref b]) (hr : (cx_y X).sig.returnType = ret) (hq : cx_q X = lw_Z (cx_b X) #[Value.ref b] (cx_s X)) (h0 : (cx_s X).heap.size = g.2.2.1) (hn : h_nx σ0 = 0) (hu : h_us σ0 = 0) (hd : decode code pc = .ok (.ireturn, 1)) {f : Hp → P → Prop} : GJ X 7 (xWo g σ0 (cx_s X).heap) Q f pc L [.int (iI 1)] := by
  intro σ h H locs cs ss ls w l
  obtain ⟨c1, c2⟩ := xWo_cs w
  rw [hn] at c1
  rw [hu] at c2
  refine va_forget (fun q hq => by rw [h0]; exact w.2.1.2.2 q hq) (W.widen (k := 1200048) (n := 5501818) c1 c2 ?_)
  obtain ⟨p, l9, e, R, s, m, ar, be, me, c, qq⟩ := X
  obtain rfl : R = room_1 := hm
  obtain rfl : ar = #[Value.ref b] := hargs
  obtain rfl : qq = lw_Z be #[Value.ref b] s := hq
  exact lw_ret C.1 C.2.1 hr C.2.2.2.1 hd
theorem gx_callWI (C : GC X nL cc own) (E : XE X g σ0) {f : PT Hp Int} {kf : Int → Hp → P → Prop} {As rest : List Value} {k n i : Nat} {y : MethodName} {yc : ByteArray} {nL' : Nat} {ret : Option FieldType} {hh : List (Nat × Nat × Nat × Nat)}
    {t0 : Nat} {r0 : vw_C} (hr0 : xcl[t0]? = some r0) (hd : decode cc pc = .ok (.invokevirtual i, 3)) (hM : XMetW (cx_l X) g y yc nL' ret hh k (rv g r :: As) f rvI) (hT : GoodIn lw_all (wsV own i y.cls y (wsW_ y yc nL' ret hh))) (hy : y.cls ≠ "java/lang/invoke/MethodHandle" ∧ y.cls ≠ "java/lang/invoke/VarHandle" ∧ (parseMethodDescriptor y.desc).map (fun d => d.parameters.length) = some n) (hcl : r0.1 = y.cls) {k0 : Nat} (hR : k0 ≤ (cx_R X).frames ∧ 40 * k0 ≤ (cx_R X).locals) (hk : k + 1 ≤ k0) (hn' : nL' ≤ 20) (hlen : As.length = n) {st0 : List Value} (hst : st0 = As.reverse ++ rv g r :: rest) (hcat : (rest.map fun v => v.category).sum ≤ 8)
    (kk : ∀ r9, GJ X nL (xWo g σ0 (cx_s X).heap) Q (kf r9) (pc + 3) L (.int (iI r9) :: rest)) : GJ X nL (xWo g σ0 (cx_s X).heap) Q (pbnd (xrecv r t0) (fun _ => pbnd f kf)) pc L st0 := by
  subst hst
  intro σ ⟨p, e, ht, q⟩ H locs cs ss ls w l
  subst e
  refine gx_run (rw9 := rvI) (f := fun σ Q' => h_tg σ p = t0 ∧ f σ Q') (As := rv g (some p) :: As) (k := k) (y := y) (yc := yc) (nL' := nL') (ret := ret) E (fun σ Q' H locs cs ss ls q w l => ?_) kk σ ⟨ht, q⟩ H locs cs ss ls w l
  obtain ⟨ht, q⟩ := q
  have w0 := w.1
  exact vy_runVW (nL := nL) (As := As) (rest := rest) ⟨C.1, C.2.1, C.2.2.1, C.2.2.2.2.1, C.2.2.2.2.2⟩ (hM Q' σ q) (vy_cwVW n C.2.2.2.2.2 hT rfl rfl rfl ⟨rfl, hy⟩ (xRoom E hR hk hn' σ)) ⟨xPc_blind _ σ, by rw [← hcl]; exact x_recv E.1 w0 ht hr0, fun U hU hW => ⟨rfl, xPre E w hU hW⟩⟩ rfl hlen l.1 rfl (lv_room hcat) hd (xFit E w)
theorem gx_callSWI (C : GC X nL cc own) (E : XE X g σ0) {f : PT Hp Int} {kf : Int → Hp → P → Prop} {As rest : List Value} {k n i : Nat} {y : MethodName} {yc : ByteArray} {nL' : Nat} {ret : Option FieldType} {hh : List (Nat × Nat × Nat × Nat)}
    (hd : decode cc pc = .ok (.invokestatic i, 3)) (hM : XMetW (cx_l X) g y yc nL' ret hh k As f rvI) (hT : GoodIn lw_all (va_wsS own i y (wsW_ y yc nL' ret hh))) (hy : y.cls ≠ "java/lang/invoke/MethodHandle" ∧ y.cls ≠ "java/lang/invoke/VarHandle" ∧ (parseMethodDescriptor y.desc).map (fun d => d.parameters.length) = some n) {k0 : Nat} (hR : k0 ≤ (cx_R X).frames ∧ 40 * k0 ≤ (cx_R X).locals) (hk : k + 1 ≤ k0) (hn' : nL' ≤ 20) (hlen : As.length = n) {st0 : List Value} (hst : st0 = As.reverse ++ rest) (hcat : (rest.map fun v => v.category).sum ≤ 8)
    (kk : ∀ r9, GJ X nL (xWo g σ0 (cx_s X).heap) Q (kf r9) (pc + 3) L (.int (iI r9) :: rest)) : GJ X nL (xWo g σ0 (cx_s X).heap) Q (pbnd f kf) pc L st0 := by
  subst hst
  refine gx_run (rw9 := rvI) (As := As) (k := k) (y := y) (yc := yc) (nL' := nL') (ret := ret) E (fun σ Q' H locs cs ss ls q w l => ?_) kk
  exact vy_runSW (nL := nL) (As := As) (rest := rest) ⟨C.1, C.2.1, C.2.2.1, C.2.2.2.2.1, C.2.2.2.2.2⟩ (hM Q' σ q) (vy_cwSW n C.2.2.2.2.2 hT rfl rfl rfl hy (xRoom E hR hk hn' σ)) ⟨xPc_blind _ σ, fun U hU hW => ⟨rfl, xPre E w hU hW⟩⟩ rfl hlen l.1 rfl (lv_room hcat) hd (xFit E w)
end LROWS
