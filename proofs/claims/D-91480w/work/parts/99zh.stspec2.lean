set_option maxRecDepth 100000
/-! the grammar of styles -/
abbrev wNot : List Int := [110, 111, 116]
abbrev wHead : List Int := [104, 101, 97, 100]
abbrev wLate : List Int := [108, 97, 116, 101]
abbrev wCorr : List Int := [99, 111, 114, 114, 101, 99, 116, 101, 100]
abbrev wWords : List Int := [119, 111, 114, 100, 115]
abbrev wBits : List Int := [98, 105, 116, 115]
abbrev wDue : List Int := [100, 117, 101]
abbrev wMin : List Int := [109, 105, 110, 117, 116, 101]
abbrev wLett : List Int := [108, 101, 116, 116, 101, 114, 115]
abbrev wMach : List Int := [109, 97, 99, 104, 105, 110, 101]
abbrev wAnd : List Int := [97, 110, 100]
abbrev wOr : List Int := [111, 114]
abbrev wIf : List Int := [105, 102]
abbrev wMeas : List Int := [109, 101, 97, 115, 117, 114, 101]
abbrev wSpac : List Int := [115, 112, 97, 99, 101]
abbrev wPart : List Int := [112, 97, 114, 116]
abbrev wFat : List Int := [102, 97, 116]
abbrev wPay : List Int := [112, 97, 121]
abbrev wFree : List Int := [102, 114, 101, 101]
abbrev wClos : List Int := [99, 108, 111, 115, 101]
abbrev wAtt : List Int := [97, 116]
def tagW (w : List Int) : Int := if w = wHead then 0 else if w = wLate then 1 else if w = wCorr then 2 else -1
def facW (w : List Int) : Int := if w = wWords then 0 else if w = wBits then 1 else if w = wDue then 2 else if w = wMin then 3 else if w = wLett then 4 else if w = wMach then 5 else -1
theorem tagW_l {w : List Int} (h : tagW w ≠ -1) : 4 ≤ w.length ∧ (0 ≤ tagW w ∧ tagW w < 3) := by
  unfold tagW at *
  by_cases c1 : w = wHead
  · rw [if_pos c1, c1]
    exact ⟨by decide, by decide⟩
  · rw [if_neg c1] at h ⊢
    by_cases c2 : w = wLate
    · rw [if_pos c2, c2]
      exact ⟨by decide, by decide⟩
    · rw [if_neg c2] at h ⊢
      by_cases c3 : w = wCorr
      · rw [if_pos c3, c3]
        exact ⟨by decide, by decide⟩
      · rw [if_neg c3] at h
        exact absurd rfl h
theorem facW_l {w : List Int} (h : facW w ≠ -1) : 3 ≤ w.length ∧ (0 ≤ facW w ∧ facW w < 6) := by
  unfold facW at *
  by_cases c1 : w = wWords
  · rw [if_pos c1, c1]
    exact ⟨by decide, by decide⟩
  · rw [if_neg c1] at h ⊢
    by_cases c2 : w = wBits
    · rw [if_pos c2, c2]
      exact ⟨by decide, by decide⟩
    · rw [if_neg c2] at h ⊢
      by_cases c3 : w = wDue
      · rw [if_pos c3, c3]
        exact ⟨by decide, by decide⟩
      · rw [if_neg c3] at h ⊢
        by_cases c4 : w = wMin
        · rw [if_pos c4, c4]
          exact ⟨by decide, by decide⟩
        · rw [if_neg c4] at h ⊢
          by_cases c5 : w = wLett
          · rw [if_pos c5, c5]
            exact ⟨by decide, by decide⟩
          · rw [if_neg c5] at h ⊢
            by_cases c6 : w = wMach
            · rw [if_pos c6, c6]
              exact ⟨by decide, by decide⟩
            · rw [if_neg c6] at h
              exact absurd rfl h
abbrev am_Rs := Int ⊕ (Int × am_Cd)
/-- more of them, joined by a word -/
def lpR (t : Int → Int) (n : Int) (f : Int → am_Rs) (w : List Int) (mk : am_Cd → am_Cd → am_Cd) (e : Int) (c : am_Cd) : am_Rs :=
  if wAt t n (bE t n e) = w then
    match f (bE t n e + w.length) with
    | .inl x => .inl x
    | .inr q => if e < q.1 ∧ q.1 ≤ n then lpR t n f w mk q.1 (mk c q.2) else .inl e
  else .inr (bE t n e, c)
termination_by (n - e).toNat
decreasing_by
  omega
def alR (t : Int → Int) (n : Int) (f : Int → am_Rs) (a : Int) : am_Rs := match f a with
  | .inl x => .inl x
  | .inr q => lpR t n f wAnd .an q.1 q.2
def anR (t : Int → Int) (n : Int) (f : Int → am_Rs) (a : Int) : am_Rs := match alR t n f a with
  | .inl x => .inl x
  | .inr q => lpR t n (alR t n f) wOr .oo q.1 q.2
/-- a comparison behind its fact -/
def cmR (t : Int → Int) (n : Int) (f a : Int) : am_Rs := if bE t n a < n ∧ (t (bE t n a) = 60 ∨ t (bE t n a) = 62) then
    match nmR t n (bE t n a + 1) 0 9999 with
    | .inl x => .inl x
    | .inr q => .inr (q.1, .cmp (if t (bE t n a) = 60 then 2 else 3) f q.2)
  else .inl (bE t n a)
def atB (t : Int → Int) (n : Int) (N P : Int → am_Rs) (b : Int) : am_Rs :=
  if wAt t n b = wNot then N b
  else if b < n ∧ t b = 40 then P b
  else if tagW (wAt t n b) ≠ -1 then .inr (b + (wAt t n b).length, .tag (tagW (wAt t n b)))
  else if facW (wAt t n b) ≠ -1 then cmR t n (facW (wAt t n b)) (b + (wAt t n b).length)
  else .inl b
def ngM : am_Rs → am_Rs
  | .inl x => .inl x
  | .inr q => .inr (q.1, .ng q.2)
def pnM (t : Int → Int) (n : Int) : am_Rs → am_Rs
  | .inl x => .inl x
  | .inr q => if bE t n q.1 < n ∧ t (bE t n q.1) = 41 then .inr (bE t n q.1 + 1, q.2) else .inl (bE t n q.1)
/-- an atom, k levels being left -/
def atR (t : Int → Int) (n : Int) : Nat → Int → am_Rs
  | 0, a => atB t n .inl .inl (bE t n a)
  | k + 1, a => atB t n (fun b => ngM (atR t n k (b + 3))) (fun b => pnM t n (anR t n (atR t n k) (b + 1))) (bE t n a)
/-- what was read is sound -/
def okAt (t : Int → Int) (n : Int) (s : Int) (g : Nat) (a : Int) (q : Int × am_Cd) : Prop := (a + 4 ≤ q.1 ∧ q.1 ≤ n) ∧ (¬ (a < n ∧ (97 ≤ t (a) ∧ t (a) ≤ 122)) → a + 5 ≤ q.1) ∧ (a + 5 ≤ q.1 ∨ ¬ (q.1 < n ∧ (97 ≤ t (q.1) ∧ t (q.1) ≤ 122))) ∧ 7 * (q.2.dp : Int) ≤ (q.1 - a) + s ∧ q.2.hg ≤ g ∧ (q.2.cd.length : Int) ≤ q.1 - a ∧ q.2.ok
section
variable {t : Int → Int} {n : Int}
theorem lpR_y {f : Int → am_Rs} {w : List Int} {mk : am_Cd → am_Cd → am_Cd} {e : Int} {c : am_Cd} (h : wAt t n (bE t n e) = w) {x : Int} (r : f (bE t n e + w.length) = .inl x) : lpR t n f w mk e c = .inl x := by
  rw [lpR, if_pos h, r]
theorem lpR_z {f : Int → am_Rs} {w : List Int} {mk : am_Cd → am_Cd → am_Cd} {e : Int} {c : am_Cd} (h : wAt t n (bE t n e) = w) {q : Int × am_Cd} (r : f (bE t n e + w.length) = .inr q) (g : e < q.1 ∧ q.1 ≤ n) : lpR t n f w mk e c = lpR t n f w mk q.1 (mk c q.2) := by
  rw [lpR, if_pos h, r]
  exact if_pos g
theorem lpR_n {f : Int → am_Rs} {w : List Int} {mk : am_Cd → am_Cd → am_Cd} {e : Int} {c : am_Cd} (h : ¬ wAt t n (bE t n e) = w) : lpR t n f w mk e c = .inr (bE t n e, c) := by
  rw [lpR, if_neg h]
/-- a step of the loop is sound -/
theorem okAt_j {s : Int} {g : Nat} {w : List Int} {mk : am_Cd → am_Cd → am_Cd} (hw : w = wAnd ∧ mk = .an ∨ w = wOr ∧ mk = .oo) {a0 e : Int} {c : am_Cd} (o : okAt t n s (g + 1) a0 (e, c)) (h : wAt t n (bE t n e) = w) {q : Int × am_Cd} (o2 : okAt t n s g (bE t n e + w.length) q) : okAt t n s (g + 1) a0 (q.1, mk c q.2) ∧ (e < q.1 ∧ q.1 ≤ n) := by
  obtain ⟨o1, o3, o4, o5, o6, o7, o8⟩ := o
  obtain ⟨p1, p3, p4, p5, p6, p7, p8⟩ := o2
  have bv := bE_v (t := t) (n := n) (a := e)
  have wl : 2 ≤ w.length ∧ w ≠ [] := by
    rcases hw with z | z <;> rw [z.1] <;> exact ⟨by decide, by decide⟩
  have lb := wAt_b h wl.2
  have nl := p3 (wAt_n h)
  have o1' : a0 + 4 ≤ e ∧ e ≤ n := o1
  have o4' : a0 + 5 ≤ e ∨ ¬ (e < n ∧ (97 ≤ t (e) ∧ t (e) ≤ 122)) := o4
  have o5' : 7 * (c.dp : Int) ≤ (e - a0) + s := o5
  have o6' : c.hg ≤ g + 1 := o6
  have o7' : (c.cd.length : Int) ≤ e - a0 := o7
  have b5 : a0 + 5 ≤ bE t n e := by
    rcases o4' with z | z
    · omega
    · have ne : bE t n e ≠ e := fun y => by
        rw [y] at lb
        exact z lb
      omega
  have core : (mk c q.2).dp = max c.dp q.2.dp + 1 ∧ (mk c q.2).hg = max c.hg (q.2.hg + 1) ∧ (mk c q.2).cd.length = c.cd.length + (q.2.cd.length + 1) ∧ (mk c q.2).ok := by
    rcases hw with z | z <;> rw [z.2]
    · refine ⟨rfl, rfl, ?_, an_ok o8 p8⟩
      show (c.cd ++ (q.2.cd ++ [5])).length = _
      rw [List.length_append, List.length_append]
      rfl
    · refine ⟨rfl, rfl, ?_, oo_ok o8 p8⟩
      show (c.cd ++ (q.2.cd ++ [6])).length = _
      rw [List.length_append, List.length_append]
      rfl
  have m1 : max c.dp q.2.dp = c.dp ∨ max c.dp q.2.dp = q.2.dp := by omega
  refine ⟨⟨⟨by show a0 + 4 ≤ q.1; omega, p1.2⟩, fun _ => by show a0 + 5 ≤ q.1; omega, Or.inl (by show a0 + 5 ≤ q.1; omega), ?_, ?_, ?_, core.2.2.2⟩, by omega, p1.2⟩
  · show 7 * ((mk c q.2).dp : Int) ≤ (q.1 - a0) + s
    rw [core.1]
    rcases m1 with z | z <;> rw [z] <;> omega
  · show (mk c q.2).hg ≤ g + 1
    rw [core.2.1]
    omega
  · show ((mk c q.2).cd.length : Int) ≤ q.1 - a0
    rw [core.2.2.1]
    omega
theorem okAt_e {s : Int} {g : Nat} {a0 e : Int} {c : am_Cd} (o : okAt t n s g a0 (e, c)) : okAt t n s g a0 (bE t n e, c) := by
  obtain ⟨o1, o3, o4, o5, o6, o7, o8⟩ := o
  have bv := bE_v (t := t) (n := n) (a := e)
  have o1' : a0 + 4 ≤ e ∧ e ≤ n := o1
  have b2 := bv.1.2 o1'.2
  have o4' : a0 + 5 ≤ e ∨ ¬ (e < n ∧ (97 ≤ t (e) ∧ t (e) ≤ 122)) := o4
  have o5' : 7 * (c.dp : Int) ≤ (e - a0) + s := o5
  have o7' : (c.cd.length : Int) ≤ e - a0 := o7
  have o3' : ¬ (a0 < n ∧ (97 ≤ t (a0) ∧ t (a0) ≤ 122)) → a0 + 5 ≤ e := o3
  refine ⟨⟨by show a0 + 4 ≤ bE t n e; omega, b2⟩, fun z => by show a0 + 5 ≤ bE t n e; have := o3' z; omega, ?_, by show 7 * (c.dp : Int) ≤ (bE t n e - a0) + s; omega, o6, by show (c.cd.length : Int) ≤ bE t n e - a0; omega, o8⟩
  by_cases c : bE t n e = e
  · show a0 + 5 ≤ bE t n e ∨ ¬ (bE t n e < n ∧ (97 ≤ t (bE t n e) ∧ t (bE t n e) ≤ 122))
    rw [c]
    exact o4'
  · left
    show a0 + 5 ≤ bE t n e
    omega
theorem okAt_g {s : Int} {g g' : Nat} {a : Int} {q : Int × am_Cd} (h : g ≤ g') (o : okAt t n s g a q) : okAt t n s g' a q := ⟨o.1, o.2.1, o.2.2.1, o.2.2.2.1, Nat.le_trans o.2.2.2.2.1 h, o.2.2.2.2.2⟩
theorem lpR_ok {s : Int} {g : Nat} {f : Int → am_Rs} {w : List Int} {mk : am_Cd → am_Cd → am_Cd} (hw : w = wAnd ∧ mk = .an ∨ w = wOr ∧ mk = .oo) (hf : ∀ a q, a ≤ n → f a = .inr q → okAt t n s g a q) {a0 : Int} : ∀ (m : Nat) (e : Int) (c : am_Cd), (n - e).toNat ≤ m → okAt t n s (g + 1) a0 (e, c) → ∀ q, lpR t n f w mk e c = .inr q → okAt t n s (g + 1) a0 q := by
  intro m
  induction m with
  | zero =>
    intro e c hm o q hq
    have h : ¬ wAt t n (bE t n e) = w := fun h => by
      have wl : w ≠ [] := by
        rcases hw with z | z <;> rw [z.1] <;> decide
      have := (wAt_b h wl).1
      have := (bE_v (t := t) (n := n) (a := e)).1.1
      omega
    rw [lpR_n h] at hq
    cases hq
    exact okAt_e o
  | succ m ih =>
    intro e c hm o q hq
    by_cases h : wAt t n (bE t n e) = w
    · have o1 := o.1.2
      have be := (bE_v (t := t) (n := n) (a := e)).1.2 o1
      cases r : f (bE t n e + w.length) with
      | inl x =>
        rw [lpR_y h r] at hq
        cases hq
      | inr p =>
        have op := hf _ p (wAt_e h be) r
        have j := okAt_j hw o h op
        rw [lpR_z h r j.2] at hq
        exact ih p.1 (mk c p.2) (by omega) j.1 q hq
    · rw [lpR_n h] at hq
      cases hq
      exact okAt_e o
theorem alR_ok {s : Int} {g : Nat} {f : Int → am_Rs} (hf : ∀ a q, a ≤ n → f a = .inr q → okAt t n s g a q) : ∀ a q, a ≤ n → alR t n f a = .inr q → okAt t n s (g + 1) a q := fun a q ha h => by
  unfold alR at h
  cases r : f a with
  | inl x =>
    rw [r] at h
    cases h
  | inr p =>
    rw [r] at h
    exact lpR_ok (Or.inl ⟨rfl, rfl⟩) hf _ p.1 p.2 (Nat.le_refl _) (okAt_g (Nat.le_succ _) (hf a p ha r)) q h
theorem anR_ok {s : Int} {g : Nat} {f : Int → am_Rs} (hf : ∀ a q, a ≤ n → f a = .inr q → okAt t n s g a q) : ∀ a q, a ≤ n → anR t n f a = .inr q → okAt t n s (g + 2) a q := fun a q ha h => by
  unfold anR at h
  have ha' := alR_ok hf
  cases r : alR t n f a with
  | inl x =>
    rw [r] at h
    cases h
  | inr p =>
    rw [r] at h
    exact lpR_ok (Or.inr ⟨rfl, rfl⟩) ha' _ p.1 p.2 (Nat.le_refl _) (okAt_g (Nat.le_succ _) (ha' a p ha r)) q h
theorem nmR_ok {a lo hi : Int} {q : Int × Int} (h : nmR t n a lo hi = .inr q) (ha : a ≤ n) : (a + 1 ≤ q.1 ∧ q.1 ≤ n) ∧ (lo ≤ q.2 ∧ q.2 ≤ hi) ∧ (0 ≤ q.2 ∧ q.2 ≤ 9999) := by
  unfold nmR at h
  have bv := bE_v (t := t) (n := n) (a := a)
  have dv := dE_v (t := t) (n := n) (a := bE t n a)
  by_cases c : dE t n (bE t n a) = bE t n a ∨ 4 < dE t n (bE t n a) - bE t n a ∨ ¬ (lo ≤ vF t (bE t n a) (dE t n (bE t n a) - bE t n a).toNat ∧ vF t (bE t n a) (dE t n (bE t n a) - bE t n a).toNat ≤ hi)
  · rw [if_pos c] at h
    cases h
  · rw [if_neg c] at h
    have vb := vF_b (t := t) (a := bE t n a) (dE t n (bE t n a) - bE t n a).toNat (fun j j1 j2 => dv.2 _ (by omega) (by omega)) (by omega)
    cases h
    refine ⟨⟨by show a + 1 ≤ dE t n (bE t n a); omega, dv.1.2 (bv.1.2 ha)⟩, ?_, vb⟩
    show lo ≤ vF t (bE t n a) (dE t n (bE t n a) - bE t n a).toNat ∧ vF t (bE t n a) (dE t n (bE t n a) - bE t n a).toNat ≤ hi
    omega
theorem atB_ok {s : Int} {g : Nat} {N P : Int → am_Rs} {a : Int} (hs : 3 ≤ s) (hg : 1 ≤ g) (ha : a ≤ n) (hN : ∀ q, wAt t n (bE t n a) = wNot → N (bE t n a) = .inr q → okAt t n s g (bE t n a) q) (hP : ∀ q, bE t n a < n ∧ t (bE t n a) = 40 → P (bE t n a) = .inr q → okAt t n s g (bE t n a) q ∧ bE t n a + 5 ≤ q.1) : ∀ q, atB t n N P (bE t n a) = .inr q → okAt t n s g a q := fun q h => by
  have bv := bE_v (t := t) (n := n) (a := a)
  have be := bv.1.2 ha
  have up : okAt t n s g (bE t n a) q → (bE t n a + 5 ≤ q.1 ∨ (bE t n a < n ∧ (97 ≤ t (bE t n a) ∧ t (bE t n a) ≤ 122))) → okAt t n s g a q := fun o z => by
    obtain ⟨o1, o3, o4, o5, o6, o7, o8⟩ := o
    refine ⟨⟨by omega, o1.2⟩, fun y => ?_, ?_, by omega, o6, by omega, o8⟩
    · rcases z with z | z
      · omega
      · have : bE t n a ≠ a := fun e => by
          rw [e] at z
          exact y z
        omega
    · rcases o4 with z | z
      · exact Or.inl (by omega)
      · exact Or.inr z
  unfold atB at h
  by_cases c1 : wAt t n (bE t n a) = wNot
  · rw [if_pos c1] at h
    exact up (hN q c1 h) (Or.inr (wAt_b c1 (by decide)))
  · rw [if_neg c1] at h
    by_cases c2 : bE t n a < n ∧ t (bE t n a) = 40
    · rw [if_pos c2] at h
      have w := hP q c2 h
      exact up w.1 (Or.inl w.2)
    · rw [if_neg c2] at h
      by_cases c3 : tagW (wAt t n (bE t n a)) ≠ -1
      · rw [if_pos c3] at h
        have tl := tagW_l c3
        have we := wAt_e (rfl : wAt t n (bE t n a) = wAt t n (bE t n a)) be
        have nn := wAt_n (rfl : wAt t n (bE t n a) = wAt t n (bE t n a))
        have wb := wAt_b (rfl : wAt t n (bE t n a) = wAt t n (bE t n a)) (fun e => by rw [e] at tl; exact absurd tl.1 (by decide))
        cases h
        refine up ⟨⟨by show bE t n a + 4 ≤ bE t n a + ((wAt t n (bE t n a)).length : Int); omega, we⟩, fun y => absurd wb y, Or.inr nn, ?_, hg, ?_, tag_ok tl.2⟩ (Or.inr wb)
        · show 7 * ((1 : Nat) : Int) ≤ bE t n a + ((wAt t n (bE t n a)).length : Int) - bE t n a + s
          omega
        · show ((2 : Nat) : Int) ≤ bE t n a + ((wAt t n (bE t n a)).length : Int) - bE t n a
          omega
      · rw [if_neg c3] at h
        by_cases c4 : facW (wAt t n (bE t n a)) ≠ -1
        · rw [if_pos c4] at h
          have tl := facW_l c4
          have we := wAt_e (rfl : wAt t n (bE t n a) = wAt t n (bE t n a)) be
          generalize hb : bE t n a + ((wAt t n (bE t n a)).length : Int) = b1 at h we
          have b1v := bE_v (t := t) (n := n) (a := b1)
          unfold cmR at h
          by_cases c5 : bE t n b1 < n ∧ (t (bE t n b1) = 60 ∨ t (bE t n b1) = 62)
          · rw [if_pos c5] at h
            cases r : nmR t n (bE t n b1 + 1) 0 9999 with
            | inl x =>
              rw [r] at h
              cases h
            | inr p =>
              rw [r] at h
              have nk := nmR_ok r (by omega)
              have e : q = (p.1, am_Cd.cmp (if t (bE t n b1) = 60 then 2 else 3) (facW (wAt t n (bE t n a))) p.2) := by
                cases h
                rfl
              rw [e]
              rw [e] at up
              refine up ⟨⟨by show bE t n a + 4 ≤ p.1; omega, nk.1.2⟩, fun _ => by show bE t n a + 5 ≤ p.1; omega, Or.inl (by show bE t n a + 5 ≤ p.1; omega), ?_, hg, ?_, cmp_ok ?_ tl.2⟩ (Or.inl (by show bE t n a + 5 ≤ p.1; omega))
              · show 7 * ((1 : Nat) : Int) ≤ p.1 - bE t n a + s
                omega
              · show ((3 : Nat) : Int) ≤ p.1 - bE t n a
                omega
              · split
                · exact Or.inl rfl
                · exact Or.inr rfl
          · rw [if_neg c5] at h
            cases h
        · rw [if_neg c4] at h
          cases h
theorem atR_ok : ∀ (k : Nat) (a : Int) (q : Int × am_Cd), a ≤ n → atR t n k a = .inr q → okAt t n (3 + 4 * (k : Int)) (1 + 2 * k) a q
  | 0, a, q, ha, h => atB_ok (by omega) (by omega) ha (fun q _ z => by cases z) (fun q _ z => by cases z) q h
  | k + 1, a, q, ha, h => by
    have i : ∀ a q, a ≤ n → atR t n k a = .inr q → okAt t n (3 + 4 * (k : Int)) (1 + 2 * k) a q := fun a q ha h => atR_ok k a q ha h
    have j := anR_ok i
    have bv := bE_v (t := t) (n := n) (a := a)
    have be := bv.1.2 ha
    refine atB_ok (by omega) (by omega) ha (fun q z y => ?_) (fun q z y => ?_) q h
    · have we := wAt_e z be
      have nn := wAt_n z
      have y' : ngM (atR t n k (bE t n a + 3)) = .inr q := y
      have we' : bE t n a + 3 ≤ n := we
      have nn' : ¬ (bE t n a + 3 < n ∧ (97 ≤ t (bE t n a + 3) ∧ t (bE t n a + 3) ≤ 122)) := nn
      cases r : atR t n k (bE t n a + 3) with
      | inl x =>
        rw [r] at y'
        cases y'
      | inr p =>
        rw [r] at y'
        obtain ⟨o1, o3, o4, o5, o6, o7, o8⟩ := i _ p we' r
        have o3' := o3 nn'
        cases y'
        refine ⟨⟨by show bE t n a + 4 ≤ p.1; omega, o1.2⟩, fun _ => by show bE t n a + 5 ≤ p.1; omega, Or.inl (by show bE t n a + 5 ≤ p.1; omega), ?_, ?_, ?_, ng_ok o8⟩
        · show 7 * ((p.2.dp + 1 : Nat) : Int) ≤ p.1 - bE t n a + (3 + 4 * ((k + 1 : Nat) : Int))
          omega
        · show p.2.hg ≤ 1 + 2 * (k + 1)
          omega
        · show ((p.2.cd ++ [4]).length : Int) ≤ p.1 - bE t n a
          rw [List.length_append]
          show ((p.2.cd.length + 1 : Nat) : Int) ≤ p.1 - bE t n a
          omega
    · have y' : pnM t n (anR t n (atR t n k) (bE t n a + 1)) = .inr q := y
      cases r : anR t n (atR t n k) (bE t n a + 1) with
      | inl x =>
        rw [r] at y'
        cases y'
      | inr p =>
        rw [r] at y'
        obtain ⟨o1, o3, o4, o5, o6, o7, o8⟩ := j _ p (by omega) r
        have pv := bE_v (t := t) (n := n) (a := p.1)
        have y2 : (if bE t n p.1 < n ∧ t (bE t n p.1) = 41 then .inr (bE t n p.1 + 1, p.2) else .inl (bE t n p.1)) = (.inr q : am_Rs) := y'
        by_cases c : bE t n p.1 < n ∧ t (bE t n p.1) = 41
        · rw [if_pos c] at y2
          cases y2
          refine ⟨⟨⟨by show bE t n a + 4 ≤ bE t n p.1 + 1; omega, by show bE t n p.1 + 1 ≤ n; omega⟩, fun _ => by show bE t n a + 5 ≤ bE t n p.1 + 1; omega, Or.inl (by show bE t n a + 5 ≤ bE t n p.1 + 1; omega), ?_, ?_, ?_, o8⟩, by show bE t n a + 5 ≤ bE t n p.1 + 1; omega⟩
          · show 7 * (p.2.dp : Int) ≤ bE t n p.1 + 1 - bE t n a + (3 + 4 * ((k + 1 : Nat) : Int))
            omega
          · show p.2.hg ≤ 1 + 2 * (k + 1)
            omega
          · show (p.2.cd.length : Int) ≤ bE t n p.1 + 1 - bE t n a
            omega
        · rw [if_neg c] at y2
          cases y2
/-- a whole condition -/
theorem cnR_ok (a : Int) (q : Int × am_Cd) (ha : a ≤ n) (h : anR t n (atR t n 5) a = .inr q) : okAt t n 23 13 a q := anR_ok (s := 23) (g := 11) (fun a q ha h => atR_ok 5 a q ha h) a q ha h
end
/-- a rule: its word, its numbers, its condition -/
abbrev am_Ru := Int × Int × Int × Option am_Cd
/-- a condition that may be -/
def ifR (t : Int → Int) (n : Int) (must : Bool) (a : Int) : Int ⊕ (Int × Option am_Cd) := if wAt t n (bE t n a) = wIf then
    match anR t n (atR t n 5) (bE t n a + 2) with
    | .inl x => .inl x
    | .inr q => .inr (q.1, some q.2)
  else if must then .inl (bE t n a) else .inr (bE t n a, none)
/-- a number, then what follows it -/
def nmT (t : Int → Int) (n a lo hi : Int) (K : Int × Int → Int ⊕ (Int × am_Ru)) : Int ⊕ (Int × am_Ru) := match nmR t n a lo hi with
  | .inl x => .inl x
  | .inr q => K q
def ifT (t : Int → Int) (n : Int) (must : Bool) (a : Int) (k f : Int) : Int ⊕ (Int × am_Ru) := match ifR t n must a with
  | .inl x => .inl x
  | .inr q => .inr (q.1, k, f, 0, q.2)
def rlR (t : Int → Int) (n b : Int) : Int ⊕ (Int × am_Ru) :=
  if wAt t n b = wMeas then nmT t n (b + 7) 10 400 (fun q => ifT t n false q.1 0 q.2)
  else if wAt t n b = wSpac then nmT t n (b + 5) 1 40 (fun q => nmT t n q.1 q.2 40 (fun p => .inr (p.1, 1, q.2, p.2, none)))
  else if wAt t n b = wPart then nmT t n (b + 4) 0 999 (fun q => .inr (q.1, 2, q.2, 0, none))
  else if wAt t n b = wFat then nmT t n (b + 3) 0 99 (fun q => .inr (q.1, 3, q.2, 0, none))
  else if wAt t n b = wPay then nmT t n (b + 3) 0 999 (fun q => ifT t n false q.1 4 q.2)
  else if wAt t n b = wFree then ifT t n true (b + 4) 5 0
  else if wAt t n b = wClos then nmT t n (b + 5) 0 5 (fun q => if wAt t n (bE t n q.1) = wAtt then nmT t n (bE t n q.1 + 2) 0 600 (fun p => .inr (p.1, 6, q.2, p.2, none)) else .inl (bE t n q.1))
  else .inl b
/-- rules, joined by ; -/
def syR (t : Int → Int) (n : Int) : Nat → Int → List am_Ru → Int ⊕ List am_Ru
  | 0, a, _ => .inl a
  | f + 1, a, done => if done.length = 12 then .inl (bE t n a) else match rlR t n (bE t n a) with
    | .inl x => .inl x
    | .inr q => if n ≤ bE t n q.1 then .inr (done ++ [q.2]) else if t (bE t n q.1) = 59 then syR t n f (bE t n q.1 + 1) (done ++ [q.2]) else .inl (bE t n q.1)
/-- a style's rules -/
def styR (t : Int → Int) (n : Int) : Int ⊕ List am_Ru := if n ≤ bE t n 0 then .inr [] else syR t n 13 0 []
