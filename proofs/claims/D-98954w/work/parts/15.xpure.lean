/-! THE COMPONENT's HEAP, pure: tag, length, numbers, references by address; how many cells, how many slots. -/
abbrev Hp : Type := (Nat → Nat) × (Nat → Nat) × (Nat → Nat → Int) × (Nat → Nat → Option Nat) × Nat × Nat
abbrev h_tg (σ : Hp) : Nat → Nat := σ.1
abbrev h_ln (σ : Hp) : Nat → Nat := σ.2.1
abbrev h_I (σ : Hp) : Nat → Nat → Int := σ.2.2.1
abbrev h_R (σ : Hp) : Nat → Nat → Option Nat := σ.2.2.2.1
abbrev h_nx (σ : Hp) : Nat := σ.2.2.2.2.1
abbrev h_us (σ : Hp) : Nat := σ.2.2.2.2.2
def CAPN : Nat := 1200048
def CAPS : Nat := 5501818
/-- from here on: what was there before the law began (texts and their bytes, static arrays) -/
def CB : Nat := 10000000
def upR (f : Nat → Nat → Option Nat) (j i : Nat) (v : Option Nat) : Nat → Nat → Option Nat := fun a b => if a = j ∧ b = i then v else f a b
def upN (f : Nat → Nat) (i v : Nat) : Nat → Nat := fun b => if b = i then v else f b
def zI (f : Nat → Nat → Int) (j : Nat) : Nat → Nat → Int := fun a b => if a = j then 0 else f a b
def zR (f : Nat → Nat → Option Nat) (j : Nat) : Nat → Nat → Option Nat := fun a b => if a = j then none else f a b
def setI (σ : Hp) (p k : Nat) (v : Int) : Hp := (h_tg σ, h_ln σ, up2 (h_I σ) p k v, h_R σ, h_nx σ, h_us σ)
def setR (σ : Hp) (p k : Nat) (v : Option Nat) : Hp := (h_tg σ, h_ln σ, h_I σ, upR (h_R σ) p k v, h_nx σ, h_us σ)
/-- a new cell of tag t, length n, s slots -/
def newC (σ : Hp) (t n s : Nat) : Hp := (upN (h_tg σ) (h_nx σ) t, upN (h_ln σ) (h_nx σ) n, zI (h_I σ) (h_nx σ), zR (h_R σ) (h_nx σ), h_nx σ + 1, h_us σ + s)
def xnew (t : Nat) : PT Hp (Option Nat) := fun σ Q => (h_nx σ < CAPN ∧ h_us σ + fnum t ≤ CAPS) ∧ Q (some (h_nx σ)) (newC σ t 0 (fnum t))
def xnewa (t : Nat) (n : Int) : PT Hp (Option Nat) := fun σ Q => (0 ≤ w32 n ∧ w32 n ≤ 60000000 ∧ h_nx σ < CAPN ∧ h_us σ + (w32 n).toNat ≤ CAPS) ∧ Q (some (h_nx σ)) (newC σ t (w32 n).toNat (w32 n).toNat)
def xgI (r : Option Nat) (t k : Nat) : PT Hp Int := fun σ Q => ∃ p, r = some p ∧ h_tg σ p = t ∧ Q (h_I σ p k) σ
def xgR (r : Option Nat) (t k : Nat) : PT Hp (Option Nat) := fun σ Q => ∃ p, r = some p ∧ h_tg σ p = t ∧ Q (h_R σ p k) σ
def xpI (r : Option Nat) (t k : Nat) (v : Int) : PT Hp Unit := fun σ Q => ∃ p, r = some p ∧ h_tg σ p = t ∧ Q () (setI σ p k v)
def xpR (r : Option Nat) (t k : Nat) (v : Option Nat) : PT Hp Unit := fun σ Q => ∃ p, r = some p ∧ h_tg σ p = t ∧ Q () (setR σ p k v)
/-- the same of an object of one of several classes -/
def xgIs (r : Option Nat) (ts : List Nat) (k : Nat) : PT Hp Int := fun σ Q => ∃ p, r = some p ∧ h_tg σ p ∈ ts ∧ Q (h_I σ p k) σ
def xgRs (r : Option Nat) (ts : List Nat) (k : Nat) : PT Hp (Option Nat) := fun σ Q => ∃ p, r = some p ∧ h_tg σ p ∈ ts ∧ Q (h_R σ p k) σ
def xpIs (r : Option Nat) (ts : List Nat) (k : Nat) (v : Int) : PT Hp Unit := fun σ Q => ∃ p, r = some p ∧ h_tg σ p ∈ ts ∧ Q () (setI σ p k v)
def xpRs (r : Option Nat) (ts : List Nat) (k : Nat) (v : Option Nat) : PT Hp Unit := fun σ Q => ∃ p, r = some p ∧ h_tg σ p ∈ ts ∧ Q () (setR σ p k v)
def xld (r : Option Nat) (t : Nat) (i : Int) : PT Hp Int := fun σ Q => ∃ p, r = some p ∧ h_tg σ p = t ∧ (0 ≤ w32 i ∧ w32 i < h_ln σ p) ∧ Q (h_I σ p (w32 i).toNat) σ
def xldR (r : Option Nat) (t : Nat) (i : Int) : PT Hp (Option Nat) := fun σ Q => ∃ p, r = some p ∧ h_tg σ p = t ∧ (0 ≤ w32 i ∧ w32 i < h_ln σ p) ∧ Q (h_R σ p (w32 i).toNat) σ
def xst (r : Option Nat) (t : Nat) (i v : Int) : PT Hp Unit := fun σ Q => ∃ p, r = some p ∧ h_tg σ p = t ∧ (0 ≤ w32 i ∧ w32 i < h_ln σ p) ∧ Q () (setI σ p (w32 i).toNat v)
/-- what an array of tag t may hold -/
def xelt (t q : Nat) : Prop := match t with
  | 44 => q < 29
  | 45 => q = 4
  | 46 => q = 25
  | _ => False
def xstR (r : Option Nat) (t : Nat) (i : Int) (v : Option Nat) : PT Hp Unit := fun σ Q => ∃ p, r = some p ∧ h_tg σ p = t ∧ (0 ≤ w32 i ∧ w32 i < h_ln σ p) ∧ (∀ q, v = some q → xelt t (h_tg σ q)) ∧ Q () (setR σ p (w32 i).toNat v)
def xlen (r : Option Nat) : PT Hp Int := fun σ Q => ∃ p, r = some p ∧ (40 ≤ h_tg σ p ∧ h_tg σ p < 48) ∧ Q (h_ln σ p) σ
/-- the object that a call is through: not null, of class t -/
def xrecv (r : Option Nat) (t : Nat) : PT Hp Unit := fun σ Q => ∃ p, r = some p ∧ h_tg σ p = t ∧ Q () σ
/-- null, or of one of these classes -/
def xcast (r : Option Nat) (ts : List Nat) : PT Hp Unit := fun σ Q => (∀ p, r = some p → h_tg σ p ∈ ts) ∧ Q () σ
/-- a number that a field of type char takes as it is -/
def pzc {S : Type} (v : Int) : PT S Unit := fun σ Q => (0 ≤ v ∧ v < 65536) ∧ Q () σ
/-- a number that a byte is -/
def pzb {S : Type} (v : Int) : PT S Unit := fun σ Q => (-128 ≤ v ∧ v < 128) ∧ Q () σ
/-- by the class of r: the first of fs whose class it is -/
def xdisp {P : Type} (r : Option Nat) : List (Nat × (Hp → P → Prop)) → Hp → P → Prop
  | [], _, _ => False
  | (t, f) :: fs, σ, Q => (r.map (h_tg σ) = some t ∧ f σ Q) ∨ (¬ r.map (h_tg σ) = some t ∧ xdisp r fs σ Q)
def sumTo (f : Nat → Nat) : Nat → Nat
  | 0 => 0
  | n + 1 => sumTo f n + f n
/-- the texts and their bytes, in the pure heap: tags 29 and 48 -/
def CI (σ : Hp) : Prop := (∀ p, h_tg σ p = 29 → ∃ i, i < 13 ∧ p = CB + i ∧ h_R σ p 0 = some (CB + 100 + i) ∧ h_I σ p 1 = 0) ∧
  (∀ p, h_tg σ p = 48 → ∃ i, i < 13 ∧ p = CB + 100 + i ∧ h_ln σ p = klen i ∧ ∀ j, j < klen i → h_I σ p j = kbyt i j)
/-- any reference at all: of a static that the Statement doesn't name further -/
def xopq : PT Hp (Option Nat) := fun σ Q => ∀ r, Q r σ
/-- not null -/
def xnn (r : Option Nat) : PT Hp Unit := fun σ Q => (∃ p, r = some p) ∧ Q () σ
/-- null or made since the law began -/
def xdyn (r : Option Nat) : PT Hp Unit := fun σ Q => (∀ p, r = some p → p < CB) ∧ Q () σ
/-- two references compared: the same, or both made since the law began (or null) -/
def xcmp (r q : Option Nat) : PT Hp Unit := fun σ Q => (r = q ∨ ((∀ p, r = some p → p < CB) ∧ ∀ p, q = some p → p < CB)) ∧ Q () σ
def xkgR (r : Option Nat) : PT Hp (Option Nat) := fun σ Q => ∃ p, r = some p ∧ h_tg σ p = 29 ∧ Q (h_R σ p 0) σ
def xkgI (r : Option Nat) : PT Hp Int := fun σ Q => ∃ p, r = some p ∧ h_tg σ p = 29 ∧ Q 0 σ
def xklen (r : Option Nat) : PT Hp Int := fun σ Q => ∃ p, r = some p ∧ h_tg σ p = 48 ∧ Q (h_ln σ p) σ
/-- n places of p from s on, laid into q from d on -/
def cpyI (σ : Hp) (p s q d n : Nat) : Hp := (h_tg σ, h_ln σ, fun a b => if a = q ∧ d ≤ b ∧ b < d + n then h_I σ p (s + (b - d)) else h_I σ a b, h_R σ, h_nx σ, h_us σ)
def cpyR (σ : Hp) (p s q d n : Nat) : Hp := (h_tg σ, h_ln σ, h_I σ, fun a b => if a = q ∧ d ≤ b ∧ b < d + n then h_R σ p (s + (b - d)) else h_R σ a b, h_nx σ, h_us σ)
/-- System.arraycopy between arrays of tag t -/
def xcopyI (t : Nat) (r : Option Nat) (s : Int) (q : Option Nat) (d n : Int) : PT Hp Unit := fun σ Q => ∃ p p', r = some p ∧ q = some p' ∧ h_tg σ p = t ∧ h_tg σ p' = t ∧ (0 ≤ w32 s ∧ 0 ≤ w32 d ∧ 0 ≤ w32 n ∧ w32 s + w32 n ≤ h_ln σ p ∧ w32 d + w32 n ≤ h_ln σ p') ∧ (∀ i : Nat, i < (w32 n).toNat → -128 ≤ h_I σ p ((w32 s).toNat + i) ∧ h_I σ p ((w32 s).toNat + i) < 128) ∧ Q () (cpyI σ p (w32 s).toNat p' (w32 d).toNat (w32 n).toNat)
def xcopyR (t : Nat) (r : Option Nat) (s : Int) (q : Option Nat) (d n : Int) : PT Hp Unit := fun σ Q => ∃ p p', r = some p ∧ q = some p' ∧ h_tg σ p = t ∧ h_tg σ p' = t ∧ (0 ≤ w32 s ∧ 0 ≤ w32 d ∧ 0 ≤ w32 n ∧ w32 s + w32 n ≤ h_ln σ p ∧ w32 d + w32 n ≤ h_ln σ p') ∧ (∀ i : Nat, i < (w32 n).toNat → ∀ v, h_R σ p ((w32 s).toNat + i) = some v → h_tg σ v < 29) ∧ Q () (cpyR σ p (w32 s).toNat p' (w32 d).toNat (w32 n).toNat)
/-- a new cell like p -/
def dupC (σ : Hp) (p : Nat) : Hp := (upN (h_tg σ) (h_nx σ) (h_tg σ p), upN (h_ln σ) (h_nx σ) (h_ln σ p), (fun a b => if a = h_nx σ then h_I σ p b else h_I σ a b), (fun a b => if a = h_nx σ then h_R σ p b else h_R σ a b), h_nx σ + 1, h_us σ + h_ln σ p)
def xclone (t : Nat) (r : Option Nat) : PT Hp (Option Nat) := fun σ Q => ∃ p, r = some p ∧ h_tg σ p = t ∧ (h_nx σ < CAPN ∧ h_us σ + h_ln σ p ≤ CAPS) ∧ (∀ i : Nat, i < h_ln σ p → -128 ≤ h_I σ p i ∧ h_I σ p i < 128) ∧ Q (some (h_nx σ)) (dupC σ p)
/-- new int[n][k]: the rows behind the outer one -/
def newg (σ : Hp) (p n k : Nat) : Nat → Hp
  | 0 => newC σ 47 n n
  | i + 1 => setR (newC (newg σ p n k i) 40 k k) p i (some (h_nx (newg σ p n k i)))
def xnewg (n k : Int) : PT Hp (Option Nat) := fun σ Q => (0 ≤ w32 n ∧ 0 ≤ w32 k ∧ w32 n ≤ 1000 ∧ w32 k ≤ 1000 ∧ h_nx σ + 1 + (w32 n).toNat ≤ CAPN ∧ h_us σ + (w32 n).toNat + (w32 n).toNat * (w32 k).toNat ≤ CAPS) ∧ Q (some (h_nx σ)) (newg σ (h_nx σ) (w32 n).toNat (w32 k).toNat (w32 n).toNat)
/-- 'throw new E()': a new thing that nobody looks into -/
def xext (σ σ' : Hp) : Prop := h_nx σ ≤ h_nx σ' ∧ h_nx σ' ≤ h_nx σ + 1 ∧ h_us σ ≤ h_us σ' ∧ h_us σ' ≤ h_us σ + 6 ∧ (∀ p, (p < h_nx σ ∨ h_nx σ' ≤ p) → h_tg σ' p = h_tg σ p ∧ h_ln σ' p = h_ln σ p ∧ h_I σ' p = h_I σ p ∧ h_R σ' p = h_R σ p) ∧ ∀ p, h_nx σ ≤ p → p < h_nx σ' → h_tg σ' p = 49
def xthrow0 {α : Type} : XT Hp α := fun σ Q => (h_nx σ < CAPN ∧ h_us σ + 6 ≤ CAPS) ∧ ∀ p σ', xext σ σ' → Q.2 p σ'
/-- 'throw r' of a Wrong -/
def xthrow {α : Type} (r : Option Nat) : XT Hp α := fun σ Q => ∃ p, r = some p ∧ h_tg σ p = 5 ∧ Q.2 p σ
/-- try f: on with k, or what is thrown goes to h -/
def xtry {α P : Type} (f : XT Hp α) (h : Nat → Hp → P → Prop) (k : α → Hp → P → Prop) : Hp → P → Prop := fun σ Q => f σ (fun a σ' => k a σ' Q, fun p σ' => h p σ' Q)
