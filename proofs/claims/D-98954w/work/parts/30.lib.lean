/-! THE PURE PART: laws of the programs. -/
section PL
variable {S P α β : Type}
theorem pb_ {x : PT S α} {f : α → S → P → Prop} {σ : S} {Q : P} : pbnd x f σ Q = x σ (fun a σ' => f a σ' Q) := rfl
theorem xb_ {x : XT S α} {f : α → XT S β} {σ : S} {Q : (β → S → Prop) × (Nat → S → Prop)} : xbnd x f σ Q = x σ (fun a σ' => f a σ' Q, Q.2) := rfl
theorem pr_ {a : α} {σ : S} {Q : α → S → Prop} : pret a σ Q = Q a σ := rfl
theorem xr_ {a : α} {σ : S} {Q : (α → S → Prop) × (Nat → S → Prop)} : xret a σ Q = Q.1 a σ := rfl
theorem pl_ {a : β} {f : β → S → P → Prop} {σ : S} {Q : P} : plet a f σ Q = f a σ Q := rfl
theorem pi_ {c : Prop} {t1 t2 : S → P → Prop} {σ : S} {Q : P} : pite c t1 t2 σ Q = ((c → t1 σ Q) ∧ (¬ c → t2 σ Q)) := rfl
theorem pi_t {c : Prop} {t1 t2 : S → P → Prop} {σ : S} {Q : P} (h : c) (k : t1 σ Q) : pite c t1 t2 σ Q := ⟨fun _ => k, fun z => absurd h z⟩
theorem pi_f {c : Prop} {t1 t2 : S → P → Prop} {σ : S} {Q : P} (h : ¬ c) (k : t2 σ Q) : pite c t1 t2 σ Q := ⟨fun z => absurd z h, fun _ => k⟩
theorem pz_ {v : Int} {σ : S} {Q : Unit → S → Prop} : pzo v σ Q = ((v = 0 ∨ v = 1) ∧ Q () σ) := rfl
theorem pc_ {v : Int} {σ : S} {Q : Unit → S → Prop} : pzc v σ Q = ((0 ≤ v ∧ v < 65536) ∧ Q () σ) := rfl
theorem pbt_ {v : Int} {σ : S} {Q : Unit → S → Prop} : pzb v σ Q = ((-128 ≤ v ∧ v < 128) ∧ Q () σ) := rfl
theorem pn_ {v : Int} {σ : S} {Q : Unit → S → Prop} : pnz v σ Q = (w32 v ≠ 0 ∧ Q () σ) := rfl
theorem pnl_ {v : Int} {σ : S} {Q : Unit → S → Prop} : pnzl v σ Q = (w64 v ≠ 0 ∧ Q () σ) := rfl
/-- a loop that goes round n times -/
theorem ploop_for {T : Type} {F : T → (T → S → P → Prop) → S → P → Prop} {Q : P} {t : T} {σ : S} (n : Nat) (I : Nat → T → S → Prop) (h0 : I 0 t σ)
    (hs : ∀ k, k < n → ∀ t σ, I k t σ → ∀ back : T → S → P → Prop, (∀ t' σ', I (k + 1) t' σ' → back t' σ' Q) → F t back σ Q) (he : ∀ t σ, I n t σ → ∀ back : T → S → P → Prop, F t back σ Q) : ploop F t σ Q := by
  have key : ∀ j, j ≤ n → ∀ t σ, I (n - j) t σ → pit F (j + 1) t σ Q := by
    intro j
    induction j with
    | zero => intro _ t σ h; exact he t σ h _
    | succ j ih =>
      intro hj t σ h
      refine hs (n - (j + 1)) (by omega) t σ h (pit F (j + 1)) (fun t' σ' h' => ih (by omega) t' σ' ?_)
      rwa [show n - (j + 1) + 1 = n - j by omega] at h'
  exact ⟨n + 1, key n (Nat.le_refl _) t σ (by rwa [Nat.sub_self])⟩
end PL
/-! the heap's ops -/
section XL
variable {p t k : Nat} {σ : Hp} {v : Int} {ts : List Nat}
theorem gI_ {Q : Int → Hp → Prop} : xgI (some p) t k σ Q = (h_tg σ p = t ∧ Q (h_I σ p k) σ) := by
  apply propext
  exact ⟨fun ⟨_, e, h⟩ => by cases e; exact h, fun h => ⟨p, rfl, h⟩⟩
theorem gR_ {Q : Option Nat → Hp → Prop} : xgR (some p) t k σ Q = (h_tg σ p = t ∧ Q (h_R σ p k) σ) := by
  apply propext
  exact ⟨fun ⟨_, e, h⟩ => by cases e; exact h, fun h => ⟨p, rfl, h⟩⟩
theorem pI_ {Q : Unit → Hp → Prop} : xpI (some p) t k v σ Q = (h_tg σ p = t ∧ Q () (setI σ p k v)) := by
  apply propext
  exact ⟨fun ⟨_, e, h⟩ => by cases e; exact h, fun h => ⟨p, rfl, h⟩⟩
theorem pR_ {r : Option Nat} {Q : Unit → Hp → Prop} : xpR (some p) t k r σ Q = (h_tg σ p = t ∧ Q () (setR σ p k r)) := by
  apply propext
  exact ⟨fun ⟨_, e, h⟩ => by cases e; exact h, fun h => ⟨p, rfl, h⟩⟩
theorem gIs_ {Q : Int → Hp → Prop} : xgIs (some p) ts k σ Q = (h_tg σ p ∈ ts ∧ Q (h_I σ p k) σ) := by
  apply propext
  exact ⟨fun ⟨_, e, h⟩ => by cases e; exact h, fun h => ⟨p, rfl, h⟩⟩
theorem gRs_ {Q : Option Nat → Hp → Prop} : xgRs (some p) ts k σ Q = (h_tg σ p ∈ ts ∧ Q (h_R σ p k) σ) := by
  apply propext
  exact ⟨fun ⟨_, e, h⟩ => by cases e; exact h, fun h => ⟨p, rfl, h⟩⟩
theorem pIs_ {Q : Unit → Hp → Prop} : xpIs (some p) ts k v σ Q = (h_tg σ p ∈ ts ∧ Q () (setI σ p k v)) := by
  apply propext
  exact ⟨fun ⟨_, e, h⟩ => by cases e; exact h, fun h => ⟨p, rfl, h⟩⟩
theorem pRs_ {r : Option Nat} {Q : Unit → Hp → Prop} : xpRs (some p) ts k r σ Q = (h_tg σ p ∈ ts ∧ Q () (setR σ p k r)) := by
  apply propext
  exact ⟨fun ⟨_, e, h⟩ => by cases e; exact h, fun h => ⟨p, rfl, h⟩⟩
theorem ld_ {i : Int} {Q : Int → Hp → Prop} : xld (some p) t i σ Q = (h_tg σ p = t ∧ (0 ≤ w32 i ∧ w32 i < h_ln σ p) ∧ Q (h_I σ p (w32 i).toNat) σ) := by
  apply propext
  exact ⟨fun ⟨_, e, h⟩ => by cases e; exact h, fun h => ⟨p, rfl, h⟩⟩
theorem ldR_ {i : Int} {Q : Option Nat → Hp → Prop} : xldR (some p) t i σ Q = (h_tg σ p = t ∧ (0 ≤ w32 i ∧ w32 i < h_ln σ p) ∧ Q (h_R σ p (w32 i).toNat) σ) := by
  apply propext
  exact ⟨fun ⟨_, e, h⟩ => by cases e; exact h, fun h => ⟨p, rfl, h⟩⟩
theorem st_ {i : Int} {Q : Unit → Hp → Prop} : xst (some p) t i v σ Q = (h_tg σ p = t ∧ (0 ≤ w32 i ∧ w32 i < h_ln σ p) ∧ Q () (setI σ p (w32 i).toNat v)) := by
  apply propext
  exact ⟨fun ⟨_, e, h⟩ => by cases e; exact h, fun h => ⟨p, rfl, h⟩⟩
theorem stR_ {i : Int} {r : Option Nat} {Q : Unit → Hp → Prop} : xstR (some p) t i r σ Q = (h_tg σ p = t ∧ (0 ≤ w32 i ∧ w32 i < h_ln σ p) ∧ (∀ q, r = some q → xelt t (h_tg σ q)) ∧ Q () (setR σ p (w32 i).toNat r)) := by
  apply propext
  exact ⟨fun ⟨_, e, h⟩ => by cases e; exact h, fun h => ⟨p, rfl, h⟩⟩
theorem ln_ {Q : Int → Hp → Prop} : xlen (some p) σ Q = ((40 ≤ h_tg σ p ∧ h_tg σ p < 48) ∧ Q (h_ln σ p) σ) := by
  apply propext
  exact ⟨fun ⟨_, e, h⟩ => by cases e; exact h, fun h => ⟨p, rfl, h⟩⟩
theorem rc_ {Q : Unit → Hp → Prop} : xrecv (some p) t σ Q = (h_tg σ p = t ∧ Q () σ) := by
  apply propext
  exact ⟨fun ⟨_, e, h⟩ => by cases e; exact h, fun h => ⟨p, rfl, h⟩⟩
theorem nn_ {Q : Unit → Hp → Prop} : xnn (some p) σ Q = Q () σ := by
  apply propext
  exact ⟨fun h => h.2, fun h => ⟨⟨p, rfl⟩, h⟩⟩
theorem ca_ {Q : Unit → Hp → Prop} : xcast (some p) ts σ Q = (h_tg σ p ∈ ts ∧ Q () σ) := by
  apply propext
  exact ⟨fun h => ⟨h.1 p rfl, h.2⟩, fun h => ⟨fun q e => by cases e; exact h.1, h.2⟩⟩
theorem can_ {Q : Unit → Hp → Prop} : xcast none ts σ Q = Q () σ := by
  apply propext
  exact ⟨fun h => h.2, fun h => ⟨fun q e => (by cases e), h⟩⟩
theorem nw_ {Q : Option Nat → Hp → Prop} : xnew t σ Q = ((h_nx σ < CAPN ∧ h_us σ + fnum t ≤ CAPS) ∧ Q (some (h_nx σ)) (newC σ t 0 (fnum t))) := rfl
theorem na_ {n : Int} {Q : Option Nat → Hp → Prop} : xnewa t n σ Q = ((0 ≤ w32 n ∧ w32 n ≤ 60000000 ∧ h_nx σ < CAPN ∧ h_us σ + (w32 n).toNat ≤ CAPS) ∧ Q (some (h_nx σ)) (newC σ t (w32 n).toNat (w32 n).toNat)) := rfl
theorem op_ {Q : Option Nat → Hp → Prop} : xopq σ Q = ∀ r, Q r σ := rfl
theorem kR_ {Q : Option Nat → Hp → Prop} : xkgR (some p) σ Q = (h_tg σ p = 29 ∧ Q (h_R σ p 0) σ) := by
  apply propext
  exact ⟨fun ⟨_, e, h⟩ => by cases e; exact h, fun h => ⟨p, rfl, h⟩⟩
theorem kI_ {Q : Int → Hp → Prop} : xkgI (some p) σ Q = (h_tg σ p = 29 ∧ Q 0 σ) := by
  apply propext
  exact ⟨fun ⟨_, e, h⟩ => by cases e; exact h, fun h => ⟨p, rfl, h⟩⟩
theorem kl_ {Q : Int → Hp → Prop} : xklen (some p) σ Q = (h_tg σ p = 48 ∧ Q (h_ln σ p) σ) := by
  apply propext
  exact ⟨fun ⟨_, e, h⟩ => by cases e; exact h, fun h => ⟨p, rfl, h⟩⟩
theorem di_ {α : Type} {f : PT Hp α} {fs : List (Nat × PT Hp α)} {Q : α → Hp → Prop} (h : h_tg σ p = t) (k : f σ Q) : xdisp (some p) ((t, f) :: fs) σ Q := Or.inl ⟨by rw [← h]; rfl, k⟩
theorem ds_ {α : Type} {f : PT Hp α} {fs : List (Nat × PT Hp α)} {Q : α → Hp → Prop} (h : h_tg σ p ≠ t) (k : xdisp (some p) fs σ Q) : xdisp (some p) ((t, f) :: fs) σ Q := Or.inr ⟨fun z => h (Option.some.inj z), k⟩
/-! reads behind writes -/
theorem si_tg {q : Nat} : h_tg (setI σ p k v) q = h_tg σ q := rfl
theorem si_ln {q : Nat} : h_ln (setI σ p k v) q = h_ln σ q := rfl
theorem si_R {q j : Nat} : h_R (setI σ p k v) q j = h_R σ q j := rfl
theorem si_nx : h_nx (setI σ p k v) = h_nx σ := rfl
theorem si_us : h_us (setI σ p k v) = h_us σ := rfl
theorem si_I {q j : Nat} : h_I (setI σ p k v) q j = if q = p ∧ j = k then v else h_I σ q j := rfl
theorem sr_tg {r : Option Nat} {q : Nat} : h_tg (setR σ p k r) q = h_tg σ q := rfl
theorem sr_ln {r : Option Nat} {q : Nat} : h_ln (setR σ p k r) q = h_ln σ q := rfl
theorem sr_I {r : Option Nat} {q j : Nat} : h_I (setR σ p k r) q j = h_I σ q j := rfl
theorem sr_nx {r : Option Nat} : h_nx (setR σ p k r) = h_nx σ := rfl
theorem sr_us {r : Option Nat} : h_us (setR σ p k r) = h_us σ := rfl
theorem sr_R {r : Option Nat} {q j : Nat} : h_R (setR σ p k r) q j = if q = p ∧ j = k then r else h_R σ q j := rfl
theorem nc_tg {n s q : Nat} : h_tg (newC σ t n s) q = if q = h_nx σ then t else h_tg σ q := rfl
theorem nc_ln {n s q : Nat} : h_ln (newC σ t n s) q = if q = h_nx σ then n else h_ln σ q := rfl
theorem nc_I {n s q j : Nat} : h_I (newC σ t n s) q j = if q = h_nx σ then 0 else h_I σ q j := rfl
theorem nc_R {n s q j : Nat} : h_R (newC σ t n s) q j = if q = h_nx σ then none else h_R σ q j := rfl
theorem nc_nx {n s : Nat} : h_nx (newC σ t n s) = h_nx σ + 1 := rfl
theorem nc_us {n s : Nat} : h_us (newC σ t n s) = h_us σ + s := rfl
end XL
/-! the model's ops -/
section ML
variable {μ : MS} {k j n : Nat} {v i : Int}
theorem mg_ {Q : Int → MS → Prop} : mget k μ Q = Q (μ 0 k) μ := rfl
theorem mp_ {Q : Unit → MS → Prop} : mput k v μ Q = Q () (up2 μ 0 k v) := rfl
theorem mz_ {Q : Unit → MS → Prop} : mputz k v μ Q = ((v = 0 ∨ v = 1) ∧ Q () (up2 μ 0 k v)) := rfl
theorem mr_ {Q : Int → MS → Prop} : mrd j n i μ Q = ((0 ≤ w32 i ∧ w32 i < n) ∧ Q (μ j (w32 i).toNat) μ) := rfl
theorem mw_ {Q : Unit → MS → Prop} : mwr j n i v μ Q = ((0 ≤ w32 i ∧ w32 i < n) ∧ Q () (up2 μ j (w32 i).toNat v)) := rfl
theorem mwz_ {Q : Unit → MS → Prop} : mwrz j n i v μ Q = ((0 ≤ w32 i ∧ w32 i < n) ∧ (v = 0 ∨ v = 1) ∧ Q () (up2 μ j (w32 i).toNat v)) := rfl
theorem u2_ {a b : Nat} : up2 μ j k v a b = if a = j ∧ b = k then v else μ a b := rfl
end ML
/-! small numbers are as they are -/
theorem wn (k : Nat) (h : k < 2147483648) : w32 (k : Int) = k := w32_id (by omega) (by omega)
theorem wn1 (k : Nat) (h : k < 2147483647) : w32 ((k : Int) + 1) = (k : Int) + 1 := w32_id (by omega) (by omega)
theorem w32_lit0 : w32 0 = 0 := by decide
theorem w32_lit1 : w32 1 = 1 := by decide
theorem w32_litm1 : w32 (-1) = -1 := by decide
