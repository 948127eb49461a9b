/-! THE ABSTRACT MACHINE: ints as Int (each result shown to be in range), references as Nat (0: null, a+1: the cell a), objects by tag and field number -/
abbrev am_V : Type := Int ⊕ (Nat ⊕ Int)
abbrev am_i (x : Int) : am_V := .inl x
abbrev am_r (r : Nat) : am_V := .inr (.inl r)
abbrev am_l (x : Int) : am_V := .inr (.inr x)
abbrev am_L : Type := List (Option am_V)
abbrev am_S : Type := List am_V
/-- an answer, or what was thrown -/
abbrev am_R : Type := (Option am_V) ⊕ Nat
/-- size, slots used, tag, length, int fields, reference fields, numbers of arrays, references of arrays, constants -/
abbrev am_H : Type := Nat × Nat × (Nat → Nat) × (Nat → Int) × (Nat → Nat → Int) × (Nat → Nat → Nat) × (Nat → Int → Int) × (Nat → Int → Nat) × (Nat → Nat)
def am_sz (h : am_H) : Nat := h.1
def am_us (h : am_H) : Nat := h.2.1
def am_ty (h : am_H) : Nat → Nat := h.2.2.1
def am_ln (h : am_H) : Nat → Int := h.2.2.2.1
def am_fi (h : am_H) : Nat → Nat → Int := h.2.2.2.2.1
def am_fr (h : am_H) : Nat → Nat → Nat := h.2.2.2.2.2.1
def am_ai (h : am_H) : Nat → Int → Int := h.2.2.2.2.2.2.1
def am_ar (h : am_H) : Nat → Int → Nat := h.2.2.2.2.2.2.2.1
def am_cs (h : am_H) : Nat → Nat := h.2.2.2.2.2.2.2.2
/-- a function changed at one place -/
def am_up {α : Type} (f : Nat → α) (k : Nat) (v : α) : Nat → α := fun j => if j = k then v else f j
def am_uz {α : Type} (f : Int → α) (k : Int) (v : α) : Int → α := fun j => if j = k then v else f j
def am_sfi (h : am_H) (f r : Nat) (x : Int) : am_H := (h.1, h.2.1, h.2.2.1, h.2.2.2.1, am_up h.2.2.2.2.1 f (am_up (h.2.2.2.2.1 f) r x), h.2.2.2.2.2.1, h.2.2.2.2.2.2.1, h.2.2.2.2.2.2.2.1, h.2.2.2.2.2.2.2.2)
def am_sfr (h : am_H) (f r : Nat) (x : Nat) : am_H := (h.1, h.2.1, h.2.2.1, h.2.2.2.1, h.2.2.2.2.1, am_up h.2.2.2.2.2.1 f (am_up (h.2.2.2.2.2.1 f) r x), h.2.2.2.2.2.2.1, h.2.2.2.2.2.2.2.1, h.2.2.2.2.2.2.2.2)
/-- the numbers of an array are others -/
def am_wai (h : am_H) (r : Nat) (g : Int → Int) : am_H := (h.1, h.2.1, h.2.2.1, h.2.2.2.1, h.2.2.2.2.1, h.2.2.2.2.2.1, am_up h.2.2.2.2.2.2.1 r g, h.2.2.2.2.2.2.2.1, h.2.2.2.2.2.2.2.2)
def am_war (h : am_H) (r : Nat) (g : Int → Nat) : am_H := (h.1, h.2.1, h.2.2.1, h.2.2.2.1, h.2.2.2.2.1, h.2.2.2.2.2.1, h.2.2.2.2.2.2.1, am_up h.2.2.2.2.2.2.2.1 r g, h.2.2.2.2.2.2.2.2)
def am_sai (h : am_H) (r : Nat) (k x : Int) : am_H := am_wai h r (am_uz (am_ai h r) k x)
def am_sar (h : am_H) (r : Nat) (k : Int) (x : Nat) : am_H := am_war h r (am_uz (am_ar h r) k x)
/-- a new object or array: tag t, n slots -/
def am_new (h : am_H) (t : Nat) (n : Nat) : am_H := (h.1 + 1, h.2.1 + n, am_up h.2.2.1 (h.1 + 1) t, am_up h.2.2.2.1 (h.1 + 1) n, fun f => am_up (h.2.2.2.2.1 f) (h.1 + 1) 0, fun f => am_up (h.2.2.2.2.2.1 f) (h.1 + 1) 0, am_up h.2.2.2.2.2.2.1 (h.1 + 1) (fun _ => 0), am_up h.2.2.2.2.2.2.2.1 (h.1 + 1) (fun _ => 0), h.2.2.2.2.2.2.2.2)
/-- what a copy of n places leaves -/
def am_cpy {α : Type} (f g : Int → α) (sp dp n : Int) : Int → α := fun k => if dp ≤ k ∧ k < dp + n then f (sp + (k - dp)) else g k
/-- in the range of int -/
def am_in (x : Int) : Prop := -2147483648 ≤ x ∧ x ≤ 2147483647
def am_tin : List Nat → Nat → Prop
  | [], _ => False
  | [t], x => x = t
  | t :: ts, x => x = t ∨ am_tin ts x
def am_at {α : Type} : List α → Nat → Option α
  | [], _ => none
  | x :: _, 0 => some x
  | _ :: xs, n + 1 => am_at xs n
def am_set : am_L → Nat → am_V → am_L
  | [], _, _ => []
  | _ :: xs, 0, v => some v :: xs
  | x :: xs, n + 1, v => x :: am_set xs n v
/-- the first k of a stack, as arguments in order; and the rest -/
def am_pop : Nat → am_S → List am_V → Option (List am_V × am_S)
  | 0, st, a => some (a, st)
  | n + 1, v :: st, a => am_pop n st (v :: a)
  | _ + 1, [], _ => none
def am_lk : List (Nat × Nat) → Nat → Option Nat
  | [], _ => none
  | (t, y) :: l, x => if x = t then some y else am_lk l x
abbrev am_K : Type := am_R → am_H → Prop
abbrev am_E : Type := Nat → List am_V → am_H → am_K → Prop
abbrev am_X : Type := Nat → am_L → am_S → am_H → Prop
/-- an instruction: callees, the end, what is thrown here, the other places of the method; place, locals, stack, heap -/
abbrev am_T : Type := am_E → am_K → (Nat → am_L → am_H → Prop) → am_X → Nat → am_L → am_S → am_H → Prop
def am_li (n : Nat) : am_T := fun _ _ _ X i ls st h => match am_at ls n with
  | some (some (.inl v)) => X (i + 1) ls (.inl v :: st) h
  | _ => False
def am_lr (n : Nat) : am_T := fun _ _ _ X i ls st h => match am_at ls n with
  | some (some (.inr (.inl v))) => X (i + 1) ls (.inr (.inl v) :: st) h
  | _ => False
def am_si (n : Nat) : am_T := fun _ _ _ X i ls st h => match st with
  | .inl v :: st => X (i + 1) (am_set ls n (.inl v)) st h
  | _ => False
def am_sr (n : Nat) : am_T := fun _ _ _ X i ls st h => match st with
  | .inr (.inl v) :: st => X (i + 1) (am_set ls n (.inr (.inl v))) st h
  | _ => False
def am_c (k : Int) : am_T := fun _ _ _ X i ls st h => X (i + 1) ls (.inl k :: st) h
def am_lc (k : Int) : am_T := fun _ _ _ X i ls st h => X (i + 1) ls (.inr (.inr k) :: st) h
def am_null : am_T := fun _ _ _ X i ls st h => X (i + 1) ls (.inr (.inl 0) :: st) h
def am_ldc (k : Nat) : am_T := fun _ _ _ X i ls st h => X (i + 1) ls (.inr (.inl (am_cs h k)) :: st) h
def am_dup : am_T := fun _ _ _ X i ls st h => match st with
  | .inl v :: st => X (i + 1) ls (.inl v :: .inl v :: st) h
  | .inr (.inl v) :: st => X (i + 1) ls (.inr (.inl v) :: .inr (.inl v) :: st) h
  | _ => False
def am_dupx : am_T := fun _ _ _ X i ls st h => match st with
  | .inl v :: .inr (.inl w) :: st => X (i + 1) ls (.inl v :: .inr (.inl w) :: .inl v :: st) h
  | .inr (.inl v) :: .inr (.inl w) :: st => X (i + 1) ls (.inr (.inl v) :: .inr (.inl w) :: .inr (.inl v) :: st) h
  | _ => False
def am_dup2 : am_T := fun _ _ _ X i ls st h => match st with
  | .inl v :: .inr (.inl w) :: st => X (i + 1) ls (.inl v :: .inr (.inl w) :: .inl v :: .inr (.inl w) :: st) h
  | _ => False
def am_popv : am_T := fun _ _ _ X i ls st h => match st with
  | .inl _ :: st => X (i + 1) ls st h
  | .inr (.inl _) :: st => X (i + 1) ls st h
  | _ => False
/-- two ints to one -/
def am_op2 (f : Int → Int → Int) : am_T := fun _ _ _ X i ls st h => match st with
  | .inl b :: .inl a :: st => am_in (f a b) ∧ X (i + 1) ls (.inl (f a b) :: st) h
  | _ => False
def am_add : am_T := fun _ _ _ X i ls st h => match st with
  | .inl b :: .inl a :: st => am_in (a + b) ∧ X (i + 1) ls (.inl (a + b) :: st) h
  | _ => False
def am_sub : am_T := fun _ _ _ X i ls st h => match st with
  | .inl b :: .inl a :: st => am_in (a - b) ∧ X (i + 1) ls (.inl (a - b) :: st) h
  | _ => False
def am_mul : am_T := fun _ _ _ X i ls st h => match st with
  | .inl b :: .inl a :: st => am_in (a * b) ∧ X (i + 1) ls (.inl (a * b) :: st) h
  | _ => False
def am_div : am_T := fun _ _ _ X i ls st h => match st with
  | .inl b :: .inl a :: st => (b ≠ 0 ∧ am_in (a.tdiv b)) ∧ X (i + 1) ls (.inl (a.tdiv b) :: st) h
  | _ => False
def am_rem : am_T := fun _ _ _ X i ls st h => match st with
  | .inl b :: .inl a :: st => (b ≠ 0 ∧ am_in (a.tdiv b)) ∧ X (i + 1) ls (.inl (a.tmod b) :: st) h
  | _ => False
def am_neg : am_T := fun _ _ _ X i ls st h => match st with
  | .inl a :: st => am_in (-a) ∧ X (i + 1) ls (.inl (-a) :: st) h
  | _ => False
def am_andz (a b : Int) : Int := (Int32.ofInt a &&& Int32.ofInt b).toInt
def am_orz (a b : Int) : Int := (Int32.ofInt a ||| Int32.ofInt b).toInt
def am_xorz (a b : Int) : Int := (Int32.ofInt a ^^^ Int32.ofInt b).toInt
def am_shlz (a b : Int) : Int := (Int32.ofInt a <<< (Int32.ofInt b &&& 31)).toInt
def am_shrz (a b : Int) : Int := (Int32.ofInt a >>> (Int32.ofInt b &&& 31)).toInt
def am_ushrz (a b : Int) : Int := ((Int32.ofInt a).toUInt32 >>> ((Int32.ofInt b).toUInt32 &&& Int32.toUInt32 31)).toInt32.toInt
def am_i2bz (a : Int) : Int := (Int32.ofInt a).toInt8.toInt32.toInt
def am_i2cz (a : Int) : Int := ((Int32.ofInt a).toUInt32 % 65536).toInt32.toInt
/-- a number as a boolean is kept -/
def am_nz (a : Int) : Int := (vp_nar .boolean (Int32.ofInt a)).toInt
/-- bits: nothing to show -/
def am_bit (f : Int → Int → Int) : am_T := fun _ _ _ X i ls st h => match st with
  | .inl b :: .inl a :: st => X (i + 1) ls (.inl (f a b) :: st) h
  | _ => False
def am_un (f : Int → Int) : am_T := fun _ _ _ X i ls st h => match st with
  | .inl a :: st => X (i + 1) ls (.inl (f a) :: st) h
  | _ => False
def am_i2l : am_T := fun _ _ _ X i ls st h => match st with
  | .inl a :: st => X (i + 1) ls (.inr (.inr a) :: st) h
  | _ => False
def am_lcmp : am_T := fun _ _ _ X i ls st h => match st with
  | .inr (.inr b) :: .inr (.inr a) :: st => (a < b → X (i + 1) ls (.inl (-1) :: st) h) ∧ (a = b → X (i + 1) ls (.inl 0 :: st) h) ∧ (b < a → X (i + 1) ls (.inl 1 :: st) h)
  | _ => False
def am_inc (n : Nat) (k : Int) : am_T := fun _ _ _ X i ls st h => match am_at ls n with
  | some (some (.inl a)) => am_in (a + k) ∧ X (i + 1) (am_set ls n (.inl (a + k))) st h
  | _ => False
def am_goto (j : Nat) : am_T := fun _ _ _ X _ ls st h => X j ls st h
def am_ifeq (j : Nat) : am_T := fun _ _ _ X i ls st h => match st with
  | .inl a :: st => (a = 0 → X j ls st h) ∧ (a ≠ 0 → X (i + 1) ls st h)
  | _ => False
def am_ifne (j : Nat) : am_T := fun _ _ _ X i ls st h => match st with
  | .inl a :: st => (a ≠ 0 → X j ls st h) ∧ (a = 0 → X (i + 1) ls st h)
  | _ => False
def am_iflt (j : Nat) : am_T := fun _ _ _ X i ls st h => match st with
  | .inl a :: st => (a < 0 → X j ls st h) ∧ (0 ≤ a → X (i + 1) ls st h)
  | _ => False
def am_ifge (j : Nat) : am_T := fun _ _ _ X i ls st h => match st with
  | .inl a :: st => (0 ≤ a → X j ls st h) ∧ (a < 0 → X (i + 1) ls st h)
  | _ => False
def am_ifgt (j : Nat) : am_T := fun _ _ _ X i ls st h => match st with
  | .inl a :: st => (0 < a → X j ls st h) ∧ (a ≤ 0 → X (i + 1) ls st h)
  | _ => False
def am_ifle (j : Nat) : am_T := fun _ _ _ X i ls st h => match st with
  | .inl a :: st => (a ≤ 0 → X j ls st h) ∧ (0 < a → X (i + 1) ls st h)
  | _ => False
def am_ceq (j : Nat) : am_T := fun _ _ _ X i ls st h => match st with
  | .inl b :: .inl a :: st => (a = b → X j ls st h) ∧ (a ≠ b → X (i + 1) ls st h)
  | _ => False
def am_cne (j : Nat) : am_T := fun _ _ _ X i ls st h => match st with
  | .inl b :: .inl a :: st => (a ≠ b → X j ls st h) ∧ (a = b → X (i + 1) ls st h)
  | _ => False
def am_clt (j : Nat) : am_T := fun _ _ _ X i ls st h => match st with
  | .inl b :: .inl a :: st => (a < b → X j ls st h) ∧ (b ≤ a → X (i + 1) ls st h)
  | _ => False
def am_cge (j : Nat) : am_T := fun _ _ _ X i ls st h => match st with
  | .inl b :: .inl a :: st => (b ≤ a → X j ls st h) ∧ (a < b → X (i + 1) ls st h)
  | _ => False
def am_cgt (j : Nat) : am_T := fun _ _ _ X i ls st h => match st with
  | .inl b :: .inl a :: st => (b < a → X j ls st h) ∧ (a ≤ b → X (i + 1) ls st h)
  | _ => False
def am_cle (j : Nat) : am_T := fun _ _ _ X i ls st h => match st with
  | .inl b :: .inl a :: st => (a ≤ b → X j ls st h) ∧ (b < a → X (i + 1) ls st h)
  | _ => False
def am_req (j : Nat) : am_T := fun _ _ _ X i ls st h => match st with
  | .inr (.inl b) :: .inr (.inl a) :: st => (a = b → X j ls st h) ∧ (a ≠ b → X (i + 1) ls st h)
  | _ => False
def am_rne (j : Nat) : am_T := fun _ _ _ X i ls st h => match st with
  | .inr (.inl b) :: .inr (.inl a) :: st => (a ≠ b → X j ls st h) ∧ (a = b → X (i + 1) ls st h)
  | _ => False
def am_ifn (j : Nat) : am_T := fun _ _ _ X i ls st h => match st with
  | .inr (.inl a) :: st => (a = 0 → X j ls st h) ∧ (a ≠ 0 → X (i + 1) ls st h)
  | _ => False
def am_ifnn (j : Nat) : am_T := fun _ _ _ X i ls st h => match st with
  | .inr (.inl a) :: st => (a ≠ 0 → X j ls st h) ∧ (a = 0 → X (i + 1) ls st h)
  | _ => False
def am_tswG (X : am_X) (ls : am_L) (st : am_S) (h : am_H) (a : Int) : Int → List Nat → Prop
  | _, [] => True
  | lo, j :: js => (a = lo → X j ls st h) ∧ am_tswG X ls st h a (lo + 1) js
def am_tsw (lo hi : Int) (js : List Nat) (d : Nat) : am_T := fun _ _ _ X _ ls st h => match st with
  | .inl a :: st => am_tswG X ls st h a lo js ∧ (a < lo ∨ hi < a → X d ls st h)
  | _ => False
def am_gfi (f : Nat) (ts : List Nat) : am_T := fun _ _ _ X i ls st h => match st with
  | .inr (.inl r) :: st => am_tin ts (am_ty h r) ∧ X (i + 1) ls (.inl (am_fi h f r) :: st) h
  | _ => False
def am_gfr (f : Nat) (ts : List Nat) : am_T := fun _ _ _ X i ls st h => match st with
  | .inr (.inl r) :: st => am_tin ts (am_ty h r) ∧ X (i + 1) ls (.inr (.inl (am_fr h f r)) :: st) h
  | _ => False
def am_pfi (f : Nat) (ts : List Nat) : am_T := fun _ _ _ X i ls st h => match st with
  | .inl x :: .inr (.inl r) :: st => am_tin ts (am_ty h r) ∧ X (i + 1) ls st (am_sfi h f r x)
  | _ => False
/-- a boolean field -/
def am_pfz (f : Nat) (ts : List Nat) : am_T := fun _ _ _ X i ls st h => match st with
  | .inl x :: .inr (.inl r) :: st => am_tin ts (am_ty h r) ∧ (x = 0 ∨ x = 1) ∧ X (i + 1) ls st (am_sfi h f r x)
  | _ => False
/-- a byte field -/
def am_pfb (f : Nat) (ts : List Nat) : am_T := fun _ _ _ X i ls st h => match st with
  | .inl x :: .inr (.inl r) :: st => am_tin ts (am_ty h r) ∧ (-128 ≤ x ∧ x ≤ 127) ∧ X (i + 1) ls st (am_sfi h f r x)
  | _ => False
def am_pfr (f : Nat) (ts : List Nat) : am_T := fun _ _ _ X i ls st h => match st with
  | .inr (.inl x) :: .inr (.inl r) :: st => am_tin ts (am_ty h r) ∧ X (i + 1) ls st (am_sfr h f r x)
  | _ => False
/-- a number of an array -/
def am_ald (ts : List Nat) : am_T := fun _ _ _ X i ls st h => match st with
  | .inl k :: .inr (.inl r) :: st => am_tin ts (am_ty h r) ∧ (0 ≤ k ∧ k < am_ln h r) ∧ X (i + 1) ls (.inl (am_ai h r k) :: st) h
  | _ => False
def am_lld (ts : List Nat) : am_T := fun _ _ _ X i ls st h => match st with
  | .inl k :: .inr (.inl r) :: st => am_tin ts (am_ty h r) ∧ (0 ≤ k ∧ k < am_ln h r) ∧ X (i + 1) ls (.inr (.inr (am_ai h r k)) :: st) h
  | _ => False
def am_rld (ts : List Nat) : am_T := fun _ _ _ X i ls st h => match st with
  | .inl k :: .inr (.inl r) :: st => am_tin ts (am_ty h r) ∧ (0 ≤ k ∧ k < am_ln h r) ∧ X (i + 1) ls (.inr (.inl (am_ar h r k)) :: st) h
  | _ => False
/-- stores: g: how the number is kept -/
def am_ast (ts : List Nat) (g : Int → Int) : am_T := fun _ _ _ X i ls st h => match st with
  | .inl x :: .inl k :: .inr (.inl r) :: st => am_tin ts (am_ty h r) ∧ (0 ≤ k ∧ k < am_ln h r) ∧ X (i + 1) ls st (am_sai h r k (g x))
  | _ => False
def am_istr (ts : List Nat) : am_T := fun _ _ _ X i ls st h => match st with
  | .inl x :: .inl k :: .inr (.inl r) :: st => am_tin ts (am_ty h r) ∧ (0 ≤ k ∧ k < am_ln h r) ∧ X (i + 1) ls st (am_sai h r k x)
  | _ => False
def am_lst (ts : List Nat) : am_T := fun _ _ _ X i ls st h => match st with
  | .inr (.inr x) :: .inl k :: .inr (.inl r) :: st => am_tin ts (am_ty h r) ∧ (0 ≤ k ∧ k < am_ln h r) ∧ X (i + 1) ls st (am_sai h r k x)
  | _ => False
/-- cs: tags of arrays, each with the tags of what it may hold -/
def am_rst (cs : List (Nat × List Nat)) : am_T := fun _ _ _ X i ls st h => match st with
  | .inr (.inl x) :: .inl k :: .inr (.inl r) :: st => (∃ c ∈ cs, am_ty h r = c.1 ∧ (x = 0 ∨ am_tin c.2 (am_ty h x))) ∧ (0 ≤ k ∧ k < am_ln h r) ∧ X (i + 1) ls st (am_sar h r k x)
  | _ => False
def am_len (ts : List Nat) : am_T := fun _ _ _ X i ls st h => match st with
  | .inr (.inl r) :: st => am_tin ts (am_ty h r) ∧ X (i + 1) ls (.inl (am_ln h r) :: st) h
  | _ => False
def am_newo (t n : Nat) : am_T := fun _ _ _ X i ls st h => X (i + 1) ls (.inr (.inl (am_sz h + 1)) :: st) (am_new h t n)
def am_newa (t : Nat) : am_T := fun _ _ _ X i ls st h => match st with
  | .inl n :: st => (0 ≤ n ∧ n ≤ 1000000) ∧ X (i + 1) ls (.inr (.inl (am_sz h + 1)) :: st) (am_new h t n.toNat)
  | _ => False
def am_cast (ts : List Nat) : am_T := fun _ _ _ X i ls st h => match st with
  | .inr (.inl r) :: st => (r = 0 ∨ am_tin ts (am_ty h r)) ∧ X (i + 1) ls (.inr (.inl r) :: st) h
  | _ => False
/-- 'instanceof' that holds -/
def am_inst (ts : List Nat) : am_T := fun _ _ _ X i ls st h => match st with
  | .inr (.inl r) :: st => am_tin ts (am_ty h r) ∧ X (i + 1) ls (.inl 1 :: st) h
  | _ => False
/-- behind a call -/
def am_aft (T : Nat → am_L → am_H → Prop) (X : am_X) (i : Nat) (ls : am_L) (st : am_S) : am_K := fun r h => match r with
  | .inl none => X (i + 1) ls st h
  | .inl (some v) => X (i + 1) ls (v :: st) h
  | .inr x => T x ls h
def am_calls (y n : Nat) : am_T := fun E _ T X i ls st h => match am_pop n st [] with
  | some (a, st) => st.length ≤ 16 ∧ E y a h (am_aft T X i ls st)
  | none => False
/-- on an object whose tag says which method it is -/
def am_callv (cs : List (Nat × Nat)) (n : Nat) : am_T := fun E _ T X i ls st h => match am_pop n st [] with
  | some (.inr (.inl r) :: a, st) => st.length ≤ 16 ∧ ∃ c ∈ cs, am_ty h r = c.1 ∧ E c.2 (.inr (.inl r) :: a) h (am_aft T X i ls st)
  | _ => False
/-- on an object, the method known (constructors, private methods, super) -/
def am_callo (ts : List Nat) (y n : Nat) : am_T := fun E _ T X i ls st h => match am_pop n st [] with
  | some (.inr (.inl r) :: a, st) => st.length ≤ 16 ∧ am_tin ts (am_ty h r) ∧ E y (.inr (.inl r) :: a) h (am_aft T X i ls st)
  | _ => False
/-- a reference is taken off, nothing more (Object's constructor, an exception's without words) -/
def am_drop (ts : List Nat) : am_T := fun _ _ _ X i ls st h => match st with
  | .inr (.inl r) :: st => st.length ≤ 16 ∧ am_tin ts (am_ty h r) ∧ X (i + 1) ls st h
  | _ => False
/-- System.arraycopy -/
def am_copy (ss ds : List Nat) : am_T := fun _ _ _ X i ls st h => match st with
  | .inl n :: .inl dp :: .inr (.inl d) :: .inl sp :: .inr (.inl s) :: st => st.length ≤ 16 ∧ am_tin ss (am_ty h s) ∧ am_tin ds (am_ty h d) ∧ (0 ≤ n ∧ 0 ≤ sp ∧ 0 ≤ dp ∧ sp + n ≤ am_ln h s ∧ dp + n ≤ am_ln h d) ∧ X (i + 1) ls st (am_wai h d (am_cpy (am_ai h s) (am_ai h d) sp dp n))
  | _ => False
def am_copyr (ss ds : List Nat) : am_T := fun _ _ _ X i ls st h => match st with
  | .inl n :: .inl dp :: .inr (.inl d) :: .inl sp :: .inr (.inl s) :: st => st.length ≤ 16 ∧ am_tin ss (am_ty h s) ∧ am_tin ds (am_ty h d) ∧ (0 ≤ n ∧ 0 ≤ sp ∧ 0 ≤ dp ∧ sp + n ≤ am_ln h s ∧ dp + n ≤ am_ln h d) ∧ X (i + 1) ls st (am_war h d (am_cpy (am_ar h s) (am_ar h d) sp dp n))
  | _ => False
/-- the clone of an array of numbers -/
def am_clone (ts : List Nat) (t : Nat) : am_T := fun _ _ _ X i ls st h => match st with
  | .inr (.inl r) :: st => st.length ≤ 16 ∧ am_tin ts (am_ty h r) ∧ X (i + 1) ls (.inr (.inl (am_sz h + 1)) :: st) (am_wai (am_new h t (am_ln h r).toNat) (am_sz h + 1) (am_ai h r))
  | _ => False
/-- an array of m arrays of n numbers: 'multianewarray' of two -/
def am_grid (h : am_H) (t : Nat) (n : Nat) : Nat → am_H
  | 0 => h
  | k + 1 => am_new (am_grid h t n k) t n
def am_multi (t2 t1 : Nat) : am_T := fun _ _ _ X i ls st h => match st with
  | .inl n :: .inl m :: st => m = 2 ∧ (0 ≤ n ∧ n ≤ 1000) ∧ X (i + 1) ls (.inr (.inl (am_sz h + 1)) :: st) (am_sar (am_sar (am_new (am_new (am_new h t2 2) t1 n.toNat) t1 n.toNat) (am_sz h + 1) 0 (am_sz h + 2)) (am_sz h + 1) 1 (am_sz h + 3))
  | _ => False
/-- the class of an array, as an object -/
def am_gcl (ts : List Nat) (k : Nat) : am_T := fun _ _ _ X i ls st h => match st with
  | .inr (.inl r) :: st => st.length ≤ 16 ∧ am_tin ts (am_ty h r) ∧ X (i + 1) ls (.inr (.inl (am_cs h k)) :: st) h
  | _ => False
/-- not walked -/
def am_no : am_T := fun _ _ _ _ _ _ _ _ => False
def am_ret : am_T := fun _ Q _ _ _ _ st h => match st with
  | [] => Q (.inl none) h
  | _ => False
def am_reti : am_T := fun _ Q _ _ _ _ st h => match st with
  | [.inl a] => Q (.inl (some (.inl a))) h
  | _ => False
/-- the answer of a method of type boolean -/
def am_retz : am_T := fun _ Q _ _ _ _ st h => match st with
  | [.inl a] => (a = 0 ∨ a = 1) ∧ Q (.inl (some (.inl a))) h
  | _ => False
/-- of type byte, char -/
def am_retn (lo hi : Int) : am_T := fun _ Q _ _ _ _ st h => match st with
  | [.inl a] => (lo ≤ a ∧ a ≤ hi) ∧ Q (.inl (some (.inl a))) h
  | _ => False
def am_retr : am_T := fun _ Q _ _ _ _ st h => match st with
  | [.inr (.inl a)] => Q (.inl (some (.inr (.inl a)))) h
  | _ => False
def am_thr : am_T := fun _ _ T _ _ ls st h => match st with
  | .inr (.inl a) :: _ => a ≠ 0 ∧ T a ls h
  | _ => False
/-- a new exception, its constructor without words, and its throw -/
def am_nth (t n : Nat) : am_T := fun _ _ T _ _ ls st h => st.length ≤ 16 ∧ T (am_sz h + 1) ls (am_new h t n)
/-- a method: its instructions; its handlers: from, to, where, which tags -/
abbrev am_M : Type := List am_T × List (Nat × Nat × Nat × List Nat)
def am_mem : List Nat → Nat → Bool
  | [], _ => false
  | t :: ts, x => if x = t then true else am_mem ts x
def am_find : List (Nat × Nat × Nat × List Nat) → Nat → Nat → Option Nat
  | [], _, _ => none
  | (a, b, j, ts) :: l, i, t => if a ≤ i ∧ i < b ∧ am_mem ts t = true then some j else am_find l i t
def am_cov : List (Nat × Nat × Nat × List Nat) → Nat → Bool
  | [], _ => false
  | (a, b, _, _) :: l, i => if a ≤ i ∧ i < b then true else am_cov l i
def am_hand (M : am_M) (Q : am_K) (X : am_X) (i : Nat) : Nat → am_L → am_H → Prop := fun r ls h => match am_find M.2 i (am_ty h r) with
  | some j => X j ls [.inr (.inl r)] h
  | none => am_cov M.2 i = false ∧ Q (.inr r) h
def am_stepM (M : am_M) (E : am_E) (Q : am_K) (X : am_X) : am_X := fun i ls st h => match am_at M.1 i with
  | some t => t E Q (am_hand M Q X i) X i ls st h
  | none => False
/-- from here the method comes to its end, and Q -/
def am_W (M : am_M) (E : am_E) (Q : am_K) : am_X := fun i ls st h => ∀ X : am_X, (∀ (X' : am_X) i ls st h, (∀ i ls st h, X' i ls st h → X i ls st h) → am_stepM M E Q X' i ls st h → X i ls st h) → X i ls st h
/-- locals at the entry -/
def am_fill : Nat → List am_V → am_L
  | 0, _ => []
  | n + 1, [] => none :: am_fill n []
  | n + 1, v :: vs => some v :: am_fill n vs
/-- arguments: none is long, and they are not too many -/
def am_oks : List am_V → Nat → Bool
  | [], _ => true
  | .inl _ :: l, n + 1 => am_oks l n
  | .inr (.inl _) :: l, n + 1 => am_oks l n
  | _, _ => false
/-- the methods: each its number of locals and its body -/
abbrev am_P : Type := Nat → Nat × am_M
/-- no long -/
def am_nl : am_V → Bool
  | .inr (.inr _) => false
  | _ => true
/-- the call of a method, at most d deep -/
def am_ev (P : am_P) : Nat → am_E
  | 0 => fun _ _ _ _ => False
  | d + 1 => fun y a h Q => (a.length ≤ (P y).1 ∧ a.all am_nl = true) ∧ ∃ Q' : am_K, (∀ r h, Q' r h → Q r h) ∧ am_W (P y).2 (am_ev P d) Q' 0 (am_fill (P y).1 a) [] h
theorem am_ev_mono {P : am_P} {d y : Nat} {a : List am_V} {h : am_H} {Q Q' : am_K} (H : am_ev P d y a h Q) (k : ∀ r h, Q r h → Q' r h) : am_ev P d y a h Q' := by
  cases d with
  | zero => exact H
  | succ d =>
    obtain ⟨h1, Q0, h2, h3⟩ := H
    exact ⟨h1, Q0, fun r h q => k r h (h2 r h q), h3⟩
theorem am_ev_of {P : am_P} {d y : Nat} {a : List am_V} {h : am_H} {Q : am_K} {n : Nat} {M : am_M} (hp : P y = (n, M)) (hl : a.length ≤ n) (hn : a.all am_nl = true) (H : am_W M (am_ev P d) Q 0 (am_fill n a) [] h) : am_ev P (d + 1) y a h Q := by
  have e1 : (P y).1 = n := by rw [hp]
  have e2 : (P y).2 = M := by rw [hp]
  refine ⟨⟨by rw [e1]; exact hl, hn⟩, Q, fun _ _ q => q, ?_⟩
  rw [e1, e2]
  exact H
theorem am_fold {M : am_M} {E : am_E} {Q : am_K} (X' : am_X) (hX : ∀ i ls st h, X' i ls st h → am_W M E Q i ls st h) {i : Nat} {ls : am_L} {st : am_S} {h : am_H} (H : am_stepM M E Q X' i ls st h) : am_W M E Q i ls st h :=
  fun X hc => hc X' i ls st h (fun i ls st h q => hX i ls st h q X hc) H
/-- n instructions, one behind the other -/
def am_sn (M : am_M) (E : am_E) (Q : am_K) : Nat → am_X
  | 0 => am_W M E Q
  | n + 1 => am_stepM M E Q (am_sn M E Q n)
theorem am_row {M : am_M} {E : am_E} {Q : am_K} (n : Nat) : ∀ {i : Nat} {ls : am_L} {st : am_S} {h : am_H}, am_sn M E Q n i ls st h → am_W M E Q i ls st h := by
  induction n with
  | zero => exact fun H => H
  | succ n ih => exact fun H => am_fold (am_sn M E Q n) (fun i ls st h q => ih q) H
