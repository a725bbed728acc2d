/-! THE COMPONENT's ROWS, the rest: calls by the object's class, Math, casts, constructors of Object, statics, texts. -/
def zmax (a b : Int) : Int := if w32 a < w32 b then b else a
def zmin (a b : Int) : Int := if w32 b < w32 a then b else a
theorem xl5 {w1 w2 w3 w4 w5 : Cond} {L : List Cond} (h1 : w1 ∈ L) (h2 : w2 ∈ L) (h3 : w3 ∈ L) (h4 : w4 ∈ L) (h5 : w5 ∈ L) : ∀ w ∈ [w1, w2, w3, w4, w5], w ∈ L := by
  intro w h
  simp only [List.mem_cons, List.not_mem_nil, or_false] at h
  rcases h with e | e | e | e | e <;> (rw [e]; assumption)
theorem xl6 {w1 w2 w3 w4 w5 w6 : Cond} {L : List Cond} (h1 : w1 ∈ L) (h2 : w2 ∈ L) (h3 : w3 ∈ L) (h4 : w4 ∈ L) (h5 : w5 ∈ L) (h6 : w6 ∈ L) : ∀ w ∈ [w1, w2, w3, w4, w5, w6], w ∈ L := by
  intro w h
  simp only [List.mem_cons, List.not_mem_nil, or_false] at h
  rcases h with e | e | e | e | e | e <;> (rw [e]; assumption)
section XMISC
variable {α P : Type} {X : Cx} {g : XG} {nL : Nat} {σ0 : Hp} {H0 : Heap} {Q : P} {cc : ByteArray} {own : String} {pc : Nat} {L L' : List (Nat × Value)} {st : List Value} {a b : Int} {r q : Option Nat} {t : Hp → P → Prop}
theorem gx_callOI (C : GC X nL cc own) (E : XE X g σ0) {f : PT Hp (Int)} {kf : Int → Hp → P → Prop} {As rest : List Value} {k n i : Nat} {x y : MethodName} {owner : String} {yc : ByteArray} {nL' : Nat} {ret : Option FieldType} {t0 : Nat} {r0 : vw_C} (hr0 : xcl[t0]? = some r0)
    (hd : decode cc pc = .ok (.invokevirtual i, 3)) (hM : XMet (cx_l X) g y yc nL' ret k (rv g r :: As) f rvI) (h1 : Cond.methodLink own i x ∈ lw_all) (h2 : Cond.sameMethod x.cls owner x.name x.desc ∈ lw_all) (h3 : Cond.instanceMethod ⟨owner, x.name, x.desc⟩ ∈ lw_all) (h4 : Cond.selects r0.1 x y ∈ lw_all) (h5 : Cond.instanceMethod y ∈ lw_all) (h6 : Cond.initialized y.cls ∈ lw_all) (h7 : Cond.code y yc nL' ret ∈ lw_all) {b0 : ByteArray} {m0 : Nat} {r1 : Option FieldType} (h8 : Cond.code ⟨owner, x.name, x.desc⟩ b0 m0 r1 ∈ lw_all) (hd9 : owner ≠ "java/lang/invoke/MethodHandle" ∧ owner ≠ "java/lang/invoke/VarHandle" ∧ (parseMethodDescriptor x.desc).map (fun d => d.parameters.length) = some n) {k0 : Nat} (hR : k0 ≤ (cx_R X).frames ∧ 40 * k0 ≤ (cx_R X).locals) (hk : k + 1 ≤ k0) (hn' : nL' ≤ 20) (hlen : As.length = n) {st0 : List Value} (hst : st0 = As.reverse ++ rv g r :: rest) (hcat : (rest.map fun v => v.category).sum ≤ 8)
    (kk : ∀ r9, GJ X nL (xWo g σ0 (cx_s X).heap) Q (kf r9) (pc + 3) L (.int (iI r9) :: rest)) : GJ X nL (xWo g σ0 (cx_s X).heap) Q (pbnd (xrecv r t0) (fun _ => pbnd f kf)) pc L st0 := gx_callUI C E hr0 hd hM (fun σ => va_cwO n C.2.2.2.2.2 (lw_app (xl6 h1 h2 h3 h4 h5 h6) (lw_meth h7)) rfl rfl rfl h8 hd9 (xRoom E hR hk hn' σ)) hR hk hn' hlen hst hcat kk
theorem gx_callOV (C : GC X nL cc own) (E : XE X g σ0) {f : PT Hp (Unit)} {kf : Unit → Hp → P → Prop} {As rest : List Value} {k n i : Nat} {x y : MethodName} {owner : String} {yc : ByteArray} {nL' : Nat} {ret : Option FieldType} {t0 : Nat} {r0 : vw_C} (hr0 : xcl[t0]? = some r0)
    (hd : decode cc pc = .ok (.invokevirtual i, 3)) (hM : XMet (cx_l X) g y yc nL' ret k (rv g r :: As) f rvV) (h1 : Cond.methodLink own i x ∈ lw_all) (h2 : Cond.sameMethod x.cls owner x.name x.desc ∈ lw_all) (h3 : Cond.instanceMethod ⟨owner, x.name, x.desc⟩ ∈ lw_all) (h4 : Cond.selects r0.1 x y ∈ lw_all) (h5 : Cond.instanceMethod y ∈ lw_all) (h6 : Cond.initialized y.cls ∈ lw_all) (h7 : Cond.code y yc nL' ret ∈ lw_all) {b0 : ByteArray} {m0 : Nat} {r1 : Option FieldType} (h8 : Cond.code ⟨owner, x.name, x.desc⟩ b0 m0 r1 ∈ lw_all) (hd9 : owner ≠ "java/lang/invoke/MethodHandle" ∧ owner ≠ "java/lang/invoke/VarHandle" ∧ (parseMethodDescriptor x.desc).map (fun d => d.parameters.length) = some n) {k0 : Nat} (hR : k0 ≤ (cx_R X).frames ∧ 40 * k0 ≤ (cx_R X).locals) (hk : k + 1 ≤ k0) (hn' : nL' ≤ 20) (hlen : As.length = n) {st0 : List Value} (hst : st0 = As.reverse ++ rv g r :: rest) (hcat : (rest.map fun v => v.category).sum ≤ 8)
    (kk : GJ X nL (xWo g σ0 (cx_s X).heap) Q (kf ()) (pc + 3) L rest) : GJ X nL (xWo g σ0 (cx_s X).heap) Q (pbnd (xrecv r t0) (fun _ => pbnd f kf)) pc L st0 := gx_callUV C E hr0 hd hM (fun σ => va_cwO n C.2.2.2.2.2 (lw_app (xl6 h1 h2 h3 h4 h5 h6) (lw_meth h7)) rfl rfl rfl h8 hd9 (xRoom E hR hk hn' σ)) hR hk hn' hlen hst hcat kk
theorem gx_callOR (C : GC X nL cc own) (E : XE X g σ0) {f : PT Hp (Option Nat)} {kf : Option Nat → Hp → P → Prop} {As rest : List Value} {k n i : Nat} {x y : MethodName} {owner : String} {yc : ByteArray} {nL' : Nat} {ret : Option FieldType} {t0 : Nat} {r0 : vw_C} (hr0 : xcl[t0]? = some r0)
    (hd : decode cc pc = .ok (.invokevirtual i, 3)) (hM : XMet (cx_l X) g y yc nL' ret k (rv g r :: As) f (rvR g)) (h1 : Cond.methodLink own i x ∈ lw_all) (h2 : Cond.sameMethod x.cls owner x.name x.desc ∈ lw_all) (h3 : Cond.instanceMethod ⟨owner, x.name, x.desc⟩ ∈ lw_all) (h4 : Cond.selects r0.1 x y ∈ lw_all) (h5 : Cond.instanceMethod y ∈ lw_all) (h6 : Cond.initialized y.cls ∈ lw_all) (h7 : Cond.code y yc nL' ret ∈ lw_all) {b0 : ByteArray} {m0 : Nat} {r1 : Option FieldType} (h8 : Cond.code ⟨owner, x.name, x.desc⟩ b0 m0 r1 ∈ lw_all) (hd9 : owner ≠ "java/lang/invoke/MethodHandle" ∧ owner ≠ "java/lang/invoke/VarHandle" ∧ (parseMethodDescriptor x.desc).map (fun d => d.parameters.length) = some n) {k0 : Nat} (hR : k0 ≤ (cx_R X).frames ∧ 40 * k0 ≤ (cx_R X).locals) (hk : k + 1 ≤ k0) (hn' : nL' ≤ 20) (hlen : As.length = n) {st0 : List Value} (hst : st0 = As.reverse ++ rv g r :: rest) (hcat : (rest.map fun v => v.category).sum ≤ 8)
    (kk : ∀ r9, GJ X nL (xWo g σ0 (cx_s X).heap) Q (kf r9) (pc + 3) L (rv g r9 :: rest)) : GJ X nL (xWo g σ0 (cx_s X).heap) Q (pbnd (xrecv r t0) (fun _ => pbnd f kf)) pc L st0 := gx_callUR C E hr0 hd hM (fun σ => va_cwO n C.2.2.2.2.2 (lw_app (xl6 h1 h2 h3 h4 h5 h6) (lw_meth h7)) rfl rfl rfl h8 hd9 (xRoom E hR hk hn' σ)) hR hk hn' hlen hst hcat kk
theorem gx_callAI (C : GC X nL cc own) (E : XE X g σ0) {f : PT Hp (Int)} {kf : Int → Hp → P → Prop} {As rest : List Value} {k n i : Nat} {x y : MethodName} {owner : String} {yc : ByteArray} {nL' : Nat} {ret : Option FieldType} {t0 : Nat} {r0 : vw_C} (hr0 : xcl[t0]? = some r0)
    (hd : decode cc pc = .ok (.invokevirtual i, 3)) (hM : XMet (cx_l X) g y yc nL' ret k (rv g r :: As) f rvI) (h1 : Cond.methodLink own i x ∈ lw_all) (h2 : Cond.sameMethod x.cls owner x.name x.desc ∈ lw_all) (h4 : Cond.selects r0.1 x y ∈ lw_all) (h5 : Cond.instanceMethod y ∈ lw_all) (h6 : Cond.initialized y.cls ∈ lw_all) (h7 : Cond.code y yc nL' ret ∈ lw_all) (h8 : Cond.declares ⟨owner, x.name, x.desc⟩ ∈ lw_tbl) (hd9 : owner ≠ "java/lang/invoke/MethodHandle" ∧ owner ≠ "java/lang/invoke/VarHandle" ∧ (parseMethodDescriptor x.desc).map (fun d => d.parameters.length) = some n) {k0 : Nat} (hR : k0 ≤ (cx_R X).frames ∧ 40 * k0 ≤ (cx_R X).locals) (hk : k + 1 ≤ k0) (hn' : nL' ≤ 20) (hlen : As.length = n) {st0 : List Value} (hst : st0 = As.reverse ++ rv g r :: rest) (hcat : (rest.map fun v => v.category).sum ≤ 8)
    (kk : ∀ r9, GJ X nL (xWo g σ0 (cx_s X).heap) Q (kf r9) (pc + 3) L (.int (iI r9) :: rest)) : GJ X nL (xWo g σ0 (cx_s X).heap) Q (pbnd (xrecv r t0) (fun _ => pbnd f kf)) pc L st0 := gx_callUI C E hr0 hd hM (fun σ => va_cwA n C.2.2.2.2.2 (lw_app (xl5 h1 h2 h4 h5 h6) (lw_meth h7)) rfl rfl rfl (E.1.2.1 _ h8 rfl) hd9 (xRoom E hR hk hn' σ)) hR hk hn' hlen hst hcat kk
theorem gx_callAV (C : GC X nL cc own) (E : XE X g σ0) {f : PT Hp (Unit)} {kf : Unit → Hp → P → Prop} {As rest : List Value} {k n i : Nat} {x y : MethodName} {owner : String} {yc : ByteArray} {nL' : Nat} {ret : Option FieldType} {t0 : Nat} {r0 : vw_C} (hr0 : xcl[t0]? = some r0)
    (hd : decode cc pc = .ok (.invokevirtual i, 3)) (hM : XMet (cx_l X) g y yc nL' ret k (rv g r :: As) f rvV) (h1 : Cond.methodLink own i x ∈ lw_all) (h2 : Cond.sameMethod x.cls owner x.name x.desc ∈ lw_all) (h4 : Cond.selects r0.1 x y ∈ lw_all) (h5 : Cond.instanceMethod y ∈ lw_all) (h6 : Cond.initialized y.cls ∈ lw_all) (h7 : Cond.code y yc nL' ret ∈ lw_all) (h8 : Cond.declares ⟨owner, x.name, x.desc⟩ ∈ lw_tbl) (hd9 : owner ≠ "java/lang/invoke/MethodHandle" ∧ owner ≠ "java/lang/invoke/VarHandle" ∧ (parseMethodDescriptor x.desc).map (fun d => d.parameters.length) = some n) {k0 : Nat} (hR : k0 ≤ (cx_R X).frames ∧ 40 * k0 ≤ (cx_R X).locals) (hk : k + 1 ≤ k0) (hn' : nL' ≤ 20) (hlen : As.length = n) {st0 : List Value} (hst : st0 = As.reverse ++ rv g r :: rest) (hcat : (rest.map fun v => v.category).sum ≤ 8)
    (kk : GJ X nL (xWo g σ0 (cx_s X).heap) Q (kf ()) (pc + 3) L rest) : GJ X nL (xWo g σ0 (cx_s X).heap) Q (pbnd (xrecv r t0) (fun _ => pbnd f kf)) pc L st0 := gx_callUV C E hr0 hd hM (fun σ => va_cwA n C.2.2.2.2.2 (lw_app (xl5 h1 h2 h4 h5 h6) (lw_meth h7)) rfl rfl rfl (E.1.2.1 _ h8 rfl) hd9 (xRoom E hR hk hn' σ)) hR hk hn' hlen hst hcat kk
theorem gx_callAR (C : GC X nL cc own) (E : XE X g σ0) {f : PT Hp (Option Nat)} {kf : Option Nat → Hp → P → Prop} {As rest : List Value} {k n i : Nat} {x y : MethodName} {owner : String} {yc : ByteArray} {nL' : Nat} {ret : Option FieldType} {t0 : Nat} {r0 : vw_C} (hr0 : xcl[t0]? = some r0)
    (hd : decode cc pc = .ok (.invokevirtual i, 3)) (hM : XMet (cx_l X) g y yc nL' ret k (rv g r :: As) f (rvR g)) (h1 : Cond.methodLink own i x ∈ lw_all) (h2 : Cond.sameMethod x.cls owner x.name x.desc ∈ lw_all) (h4 : Cond.selects r0.1 x y ∈ lw_all) (h5 : Cond.instanceMethod y ∈ lw_all) (h6 : Cond.initialized y.cls ∈ lw_all) (h7 : Cond.code y yc nL' ret ∈ lw_all) (h8 : Cond.declares ⟨owner, x.name, x.desc⟩ ∈ lw_tbl) (hd9 : owner ≠ "java/lang/invoke/MethodHandle" ∧ owner ≠ "java/lang/invoke/VarHandle" ∧ (parseMethodDescriptor x.desc).map (fun d => d.parameters.length) = some n) {k0 : Nat} (hR : k0 ≤ (cx_R X).frames ∧ 40 * k0 ≤ (cx_R X).locals) (hk : k + 1 ≤ k0) (hn' : nL' ≤ 20) (hlen : As.length = n) {st0 : List Value} (hst : st0 = As.reverse ++ rv g r :: rest) (hcat : (rest.map fun v => v.category).sum ≤ 8)
    (kk : ∀ r9, GJ X nL (xWo g σ0 (cx_s X).heap) Q (kf r9) (pc + 3) L (rv g r9 :: rest)) : GJ X nL (xWo g σ0 (cx_s X).heap) Q (pbnd (xrecv r t0) (fun _ => pbnd f kf)) pc L st0 := gx_callUR C E hr0 hd hM (fun σ => va_cwA n C.2.2.2.2.2 (lw_app (xl5 h1 h2 h4 h5 h6) (lw_meth h7)) rfl rfl rfl (E.1.2.1 _ h8 rfl) hd9 (xRoom E hR hk hn' σ)) hR hk hn' hlen hst hcat kk
theorem gx_callHI (C : GC X nL cc own) (E : XE X g σ0) {f : PT Hp (Int)} {kf : Int → Hp → P → Prop} {As rest : List Value} {k n i : Nat} {x y : MethodName} {owner : String} {yc : ByteArray} {nL' : Nat} {ret : Option FieldType} {t0 : Nat} {r0 : vw_C} (hr0 : xcl[t0]? = some r0)
    (hd : decode cc pc = .ok (.invokevirtual i, 3)) (hM : XMet (cx_l X) g y yc nL' ret k (rv g r :: As) f rvI) (h1 : Cond.methodLink own i x ∈ lw_all) (h2 : Cond.sameMethod x.cls owner x.name x.desc ∈ lw_all) (h4 : Cond.selects r0.1 x y ∈ lw_all) (h5 : Cond.instanceMethod y ∈ lw_all) (h6 : Cond.initialized y.cls ∈ lw_all) (h7 : Cond.code y yc nL' ret ∈ lw_all) (h8 : y = ⟨owner, x.name, x.desc⟩) (hd9 : owner ≠ "java/lang/invoke/MethodHandle" ∧ owner ≠ "java/lang/invoke/VarHandle" ∧ (parseMethodDescriptor x.desc).map (fun d => d.parameters.length) = some n) {k0 : Nat} (hR : k0 ≤ (cx_R X).frames ∧ 40 * k0 ≤ (cx_R X).locals) (hk : k + 1 ≤ k0) (hn' : nL' ≤ 20) (hlen : As.length = n) {st0 : List Value} (hst : st0 = As.reverse ++ rv g r :: rest) (hcat : (rest.map fun v => v.category).sum ≤ 8)
    (kk : ∀ r9, GJ X nL (xWo g σ0 (cx_s X).heap) Q (kf r9) (pc + 3) L (.int (iI r9) :: rest)) : GJ X nL (xWo g σ0 (cx_s X).heap) Q (pbnd (xrecv r t0) (fun _ => pbnd f kf)) pc L st0 := gx_callUI C E hr0 hd hM (fun σ => va_cwU n C.2.2.2.2.2 (lw_app (xl5 h1 h2 h4 h5 h6) (lw_meth h7)) rfl rfl rfl h8 hd9 (xRoom E hR hk hn' σ)) hR hk hn' hlen hst hcat kk
theorem gx_callHV (C : GC X nL cc own) (E : XE X g σ0) {f : PT Hp (Unit)} {kf : Unit → Hp → P → Prop} {As rest : List Value} {k n i : Nat} {x y : MethodName} {owner : String} {yc : ByteArray} {nL' : Nat} {ret : Option FieldType} {t0 : Nat} {r0 : vw_C} (hr0 : xcl[t0]? = some r0)
    (hd : decode cc pc = .ok (.invokevirtual i, 3)) (hM : XMet (cx_l X) g y yc nL' ret k (rv g r :: As) f rvV) (h1 : Cond.methodLink own i x ∈ lw_all) (h2 : Cond.sameMethod x.cls owner x.name x.desc ∈ lw_all) (h4 : Cond.selects r0.1 x y ∈ lw_all) (h5 : Cond.instanceMethod y ∈ lw_all) (h6 : Cond.initialized y.cls ∈ lw_all) (h7 : Cond.code y yc nL' ret ∈ lw_all) (h8 : y = ⟨owner, x.name, x.desc⟩) (hd9 : owner ≠ "java/lang/invoke/MethodHandle" ∧ owner ≠ "java/lang/invoke/VarHandle" ∧ (parseMethodDescriptor x.desc).map (fun d => d.parameters.length) = some n) {k0 : Nat} (hR : k0 ≤ (cx_R X).frames ∧ 40 * k0 ≤ (cx_R X).locals) (hk : k + 1 ≤ k0) (hn' : nL' ≤ 20) (hlen : As.length = n) {st0 : List Value} (hst : st0 = As.reverse ++ rv g r :: rest) (hcat : (rest.map fun v => v.category).sum ≤ 8)
    (kk : GJ X nL (xWo g σ0 (cx_s X).heap) Q (kf ()) (pc + 3) L rest) : GJ X nL (xWo g σ0 (cx_s X).heap) Q (pbnd (xrecv r t0) (fun _ => pbnd f kf)) pc L st0 := gx_callUV C E hr0 hd hM (fun σ => va_cwU n C.2.2.2.2.2 (lw_app (xl5 h1 h2 h4 h5 h6) (lw_meth h7)) rfl rfl rfl h8 hd9 (xRoom E hR hk hn' σ)) hR hk hn' hlen hst hcat kk
theorem gx_callHR (C : GC X nL cc own) (E : XE X g σ0) {f : PT Hp (Option Nat)} {kf : Option Nat → Hp → P → Prop} {As rest : List Value} {k n i : Nat} {x y : MethodName} {owner : String} {yc : ByteArray} {nL' : Nat} {ret : Option FieldType} {t0 : Nat} {r0 : vw_C} (hr0 : xcl[t0]? = some r0)
    (hd : decode cc pc = .ok (.invokevirtual i, 3)) (hM : XMet (cx_l X) g y yc nL' ret k (rv g r :: As) f (rvR g)) (h1 : Cond.methodLink own i x ∈ lw_all) (h2 : Cond.sameMethod x.cls owner x.name x.desc ∈ lw_all) (h4 : Cond.selects r0.1 x y ∈ lw_all) (h5 : Cond.instanceMethod y ∈ lw_all) (h6 : Cond.initialized y.cls ∈ lw_all) (h7 : Cond.code y yc nL' ret ∈ lw_all) (h8 : y = ⟨owner, x.name, x.desc⟩) (hd9 : owner ≠ "java/lang/invoke/MethodHandle" ∧ owner ≠ "java/lang/invoke/VarHandle" ∧ (parseMethodDescriptor x.desc).map (fun d => d.parameters.length) = some n) {k0 : Nat} (hR : k0 ≤ (cx_R X).frames ∧ 40 * k0 ≤ (cx_R X).locals) (hk : k + 1 ≤ k0) (hn' : nL' ≤ 20) (hlen : As.length = n) {st0 : List Value} (hst : st0 = As.reverse ++ rv g r :: rest) (hcat : (rest.map fun v => v.category).sum ≤ 8)
    (kk : ∀ r9, GJ X nL (xWo g σ0 (cx_s X).heap) Q (kf r9) (pc + 3) L (rv g r9 :: rest)) : GJ X nL (xWo g σ0 (cx_s X).heap) Q (pbnd (xrecv r t0) (fun _ => pbnd f kf)) pc L st0 := gx_callUR C E hr0 hd hM (fun σ => va_cwU n C.2.2.2.2.2 (lw_app (xl5 h1 h2 h4 h5 h6) (lw_meth h7)) rfl rfl rfl h8 hd9 (xRoom E hR hk hn' σ)) hR hk hn' hlen hst hcat kk
/-! by the object's class -/
theorem gx_dnil {kf : α → Hp → P → Prop} : GJ X nL (xWo g σ0 H0) Q (pbnd (xdisp r []) kf) pc L st := fun _ h => h.elim
theorem gx_dcons {f : PT Hp α} {fs : List (Nat × PT Hp α)} {t0 : Nat} {kf : α → Hp → P → Prop} (h1 : GJ X nL (xWo g σ0 H0) Q (pbnd (xrecv r t0) (fun _ => pbnd f kf)) pc L st) (h2 : GJ X nL (xWo g σ0 H0) Q (pbnd (xdisp r fs) kf) pc L st) : GJ X nL (xWo g σ0 H0) Q (pbnd (xdisp r ((t0, f) :: fs)) kf) pc L st := by
  intro σ h
  rcases h with ⟨e, h⟩ | ⟨-, h⟩
  · cases r with
    | none => cases e
    | some p => exact h1 σ ⟨p, rfl, Option.some.inj e, h⟩
  · exact h2 σ h
theorem gx_share {A : Prop} {B : Prop} (h : A → B) (k : A) : B := h k
/-! Math -/
theorem gx_max (C : GC X nL cc own) (E : XE X g σ0) {i : Nat} {k0 : Nat} (hd : decode cc pc = .ok (.invokestatic i, 3)) (h1 : Cond.methodLink own i Lib.Math.max.name ∈ lw_all) (h2 : Cond.static Lib.Math.max.name ∈ lw_all) (h3 : Cond.initialized "java/lang/Math" ∈ lw_all) (h4 : Cond.code Lib.Math.max.name Lib.Math.max.code 2 (some .int) ∈ lw_all) (hR : k0 ≤ (cx_R X).frames ∧ 40 * k0 ≤ (cx_R X).locals) (hk : 1 ≤ k0) (hcat : (st.map fun v => v.category).sum ≤ 8)
    (k9 : GJ X nL (xWo g σ0 H0) Q t (pc + 3) L (.int (iI (zmax a b)) :: st)) : GJ X nL (xWo g σ0 H0) Q t pc L (.int (iI b) :: .int (iI a) :: st) := by
  intro σ q H locs cs ss ls w l
  have hc := xFit E w
  refine va_mmax C.1 C.2.1 (C.2.2.1.trans l.1.symm) C.2.2.2.2.1 (C.2.2.2.2.2 _ h1) (C.2.2.2.2.2 _ h2) (C.2.2.2.2.2 _ h3) (C.2.2.2.2.2 _ h4) (by omega) (by omega) (by omega) (by omega) hd ?_
  have e : (if iI a < iI b then iI b else iI a) = iI (zmax a b) := by
    unfold zmax
    simp only [iI_lt]
    split <;> rfl
  rw [e]
  exact k9 σ q H locs cs ss ls w l
theorem gx_min (C : GC X nL cc own) (E : XE X g σ0) {i : Nat} {k0 : Nat} (hd : decode cc pc = .ok (.invokestatic i, 3)) (h1 : Cond.methodLink own i Lib.Math.min.name ∈ lw_all) (h2 : Cond.static Lib.Math.min.name ∈ lw_all) (h3 : Cond.initialized "java/lang/Math" ∈ lw_all) (h4 : Cond.code Lib.Math.min.name Lib.Math.min.code 2 (some .int) ∈ lw_all) (hR : k0 ≤ (cx_R X).frames ∧ 40 * k0 ≤ (cx_R X).locals) (hk : 1 ≤ k0) (hcat : (st.map fun v => v.category).sum ≤ 8)
    (k9 : GJ X nL (xWo g σ0 H0) Q t (pc + 3) L (.int (iI (zmin a b)) :: st)) : GJ X nL (xWo g σ0 H0) Q t pc L (.int (iI b) :: .int (iI a) :: st) := by
  intro σ q H locs cs ss ls w l
  have hc := xFit E w
  refine va_mmin C.1 C.2.1 (C.2.2.1.trans l.1.symm) C.2.2.2.2.1 (C.2.2.2.2.2 _ h1) (C.2.2.2.2.2 _ h2) (C.2.2.2.2.2 _ h3) (C.2.2.2.2.2 _ h4) (by omega) (by omega) (by omega) (by omega) hd ?_
  have e : (if iI b < iI a then iI b else iI a) = iI (zmin a b) := by
    unfold zmin
    simp only [iI_lt]
    split <;> rfl
  rw [e]
  exact k9 σ q H locs cs ss ls w l
/-! casts -/
theorem gx_cast (C : GC X nL cc own) (E : XE X g σ0) {i : Nat} {nm : String} {ts : List Nat} (hd : decode cc pc = .ok (.checkcast i, 3)) (hl : Cond.classLink own i nm ∈ lw_all) (hw : ∀ t0 ∈ ts, ∃ r0, xcl[t0]? = some r0 ∧ (Cond.castable r0.1 nm ∈ lw_tbl ∨ r0.1 = nm))
    (k9 : GJ X nL (xWo g σ0 H0) Q t (pc + 3) L (rv g r :: st)) : GJ X nL (xWo g σ0 H0) Q (pbnd (xcast r ts) (fun _ => t)) pc L (rv g r :: st) := by
  intro σ ⟨hc, q⟩ H locs cs ss ls w l
  cases r with
  | none => exact lv_castN C.1 C.2.1 hd (k9 σ q H locs cs ss ls w l)
  | some p =>
    obtain ⟨r0, hr, hh⟩ := hw _ (hc p rfl)
    have hrec := x_recv E.1 w.1 rfl hr
    rcases hh with hh | hh
    · exact va_castY C.1 C.2.1 C.2.2.2.2.1 (C.2.2.2.2.2 _ hl) (E.1.2.1 _ hh rfl) hrec hd (k9 σ q H locs cs ss ls w l)
    · rw [hh] at hrec
      exact va_castE C.1 C.2.1 C.2.2.2.2.1 (C.2.2.2.2.2 _ hl) hrec hd (k9 σ q H locs cs ss ls w l)
/-! Object's constructor -/
theorem gx_objinit (C : GC X nL cc own) (E : XE X g σ0) {i k0 : Nat} (hd : decode cc pc = .ok (.invokespecial i, 3)) (h1 : Cond.methodLink own i Lib.objectInit ∈ lw_all) (h2 : Cond.instanceMethod Lib.objectInit ∈ lw_all) (h3 : Cond.code Lib.objectInit ⟨#[0xb1]⟩ 1 none ∈ lw_all) (hR : k0 ≤ (cx_R X).frames ∧ 40 * k0 ≤ (cx_R X).locals) (hk : 1 ≤ k0) (hcat : (st.map fun v => v.category).sum ≤ 8)
    (k9 : GJ X nL (xWo g σ0 H0) Q t (pc + 3) L st) : GJ X nL (xWo g σ0 H0) Q (pbnd (xnn r) (fun _ => t)) pc L (rv g r :: st) := by
  intro σ ⟨⟨p, e⟩, q⟩ H locs cs ss ls w l
  subst e
  refine W.objInit (a := real g p) (rest := st) C.1 C.2.1 C.2.2.2.2.1 (C.2.2.2.2.2 _ h1) (C.2.2.2.2.2 _ h2) (C.2.2.2.2.2 _ h3) rfl (l.1.trans C.2.2.1.symm) rfl hd (by omega) ?_ (k9 σ q H locs cs ss ls w l)
  show 2 * 0 + _ + 12 ≤ _
  omega
/-! texts and statics -/
theorem gx_ldcS (C : GC X nL cc RX2) (E : XE X g σ0) {i : Nat} (k : Nat) (hk : k < 13) (hi : kidx k = i) (hd : decode cc pc = .ok (.ldc i, 2)) (k9 : GJ X nL (xWo g σ0 H0) Q t (pc + 2) L (rv g (some (CB + k)) :: st)) : GJ X nL (xWo g σ0 H0) Q t pc L st := by
  intro σ q H locs cs ss ls w l
  subst hi
  refine va_ldcS C.1 C.2.1 C.2.2.2.2.1 (E.2.2.2.2.1.2.1 k hk) hd ?_
  have e : Value.ref (g.2.2.2 k) = rv g (some (CB + k)) := by
    show _ = Value.ref (real g (CB + k))
    unfold real
    rw [if_neg (by omega), Nat.add_sub_cancel_left]
  rw [e]
  exact k9 σ q H locs cs ss ls w l
theorem x_ldcwS {p : Program} {l : Launch} {e : Env} {R : Room} {s : State} {m : MethodId} {args : Array Value} {below : List Frame} {meth : Method} {c : Code} {T : State} {locs : List Loc} {cells slots : Nat}
    (X : Stand p l e R s m args below meth c T locs cells slots) (hexec : p.tables.exec = Jvm.exec) {own text : String} {index : Nat} {a : Addr} (hown : s.vm.findClass own = some m.cls)
    (hconst : (Cond.stringRef own index text).before args s = true) (hev : (Term.string own index).eval args s none [] s = some (.ref a)) {g : JFrame} (hg : g.method = m) (hdg : decode c.code g.pc = .ok (.ldc_w index, 3)) :
    ∀ target, Steps p.tables e below (T.setTop { g with pc := g.pc + 3, stack := .ref a :: g.stack }) target → Steps p.tables e below (T.setTop g) target := by
  obtain ⟨k, cf, i, a', hk, hcf, hcp, -, hr, hev'⟩ := Cond.stringRef_spec hown hconst
  cases hev.symm.trans hev'
  obtain ⟨k', hk', he⟩ := X.warmed.alike.2.2 _ _ hk
  have hr' : k'.resolved[index]? = some (some (.string a)) := by
    rcases X.warmed.entry hk hk' index with h | ⟨h, -⟩
    · rw [h]; exact hr
    · rw [hr] at h; cases h
  intro target hrest
  subst hg
  jvm_step X.here [hexec, hdg, ldc_w.wp_string (e := e) (s := T) (f := g) X.here.top hk' (by rw [he]; exact hcf) hcp hr']
  exact hrest
theorem gx_ldcwS (C : GC X nL cc RX2) (E : XE X g σ0) {i : Nat} (k : Nat) (hk : k < 13) (hi : kidx k = i) (hd : decode cc pc = .ok (.ldc_w i, 3)) (k9 : GJ X nL (xWo g σ0 H0) Q t (pc + 3) L (rv g (some (CB + k)) :: st)) : GJ X nL (xWo g σ0 H0) Q t pc L st := by
  intro σ q H locs cs ss ls w l
  subst hi
  intro T hT Xs
  have hZ := E.2.2.2.2.1.2.1 k hk
  have e : Value.ref (g.2.2.2 k) = rv g (some (CB + k)) := by
    show _ = Value.ref (real g (CB + k))
    unfold real
    rw [if_neg (by omega), Nat.add_sub_cancel_left]
  have k1 := k9 σ q H locs cs ss ls w l
  rw [← e] at k1
  obtain ⟨t2, a1, b1⟩ := k1 T hT Xs
  exact ⟨t2, x_ldcwS Xs C.1 C.2.2.2.2.1 (text := ktx k) (a := g.2.2.2 k) hZ.1 hZ.2 (g := F0 _ pc ls st) rfl (by rw [C.2.1]; exact hd) t2 a1, b1⟩
end XMISC
