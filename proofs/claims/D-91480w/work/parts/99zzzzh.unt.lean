set_option maxRecDepth 100000
/-! tellings not begun: a call adds at most one -/
section
variable {S S' : am_G}
theorem unT_le (e : ∀ q, S' 5 q 29 = S 5 q 29 ∧ ∀ i, 0 ≤ i → S' 5 q (33 + 5 * i) = S 5 q (33 + 5 * i) ∧ S' 5 q (37 + 5 * i) = S 5 q (37 + 5 * i)) (e3 : ∀ p, S' 3 p 3 = 0 → S 3 p 3 = 0) : unT S' ≤ unT S := by
  have u := fun q => un_le (S := S) (S' := S') (q := q) (e q).1 (e q).2 e3
  have u0 := u 0
  have u1 := u 1
  have u2 := u 2
  have u3' := u 3
  unfold unT
  omega
theorem unT_c (e5 : S' 5 = S 5) (e3 : ∀ p, S' 3 p 3 = S 3 p 3) : unT S' ≤ unT S := unT_le (fun q => by rw [e5]; exact ⟨rfl, fun _ _ => ⟨rfl, rfl⟩⟩) (fun p z => by rw [e3] at z; exact z)
theorem unT_c5 (e5 : S' 5 = S 5) (e3 : S' 3 = S 3) : unT S' ≤ unT S := unT_c e5 (fun p => by rw [e3])
end
section
variable {S : am_G}
theorem unT_5o {k c x : Int} (hc : c < 29) : unT (u3 S 5 k c x) ≤ unT S := unT_le (fun q => ⟨u3_no (by omega), fun i _ => ⟨u3_no (by omega), u3_no (by omega)⟩⟩) (fun p z => by rw [u3_nc (by decide)] at z; exact z)
theorem unT_ah {k : Int} : unT (ah0 S k) ≤ unT S := by
  unfold ah0
  split
  · exact Int.le_refl _
  · exact unT_5o (by decide)
theorem unT_machine {x w : Int} : unT (mcS S x w) ≤ unT S := by
  obtain ⟨v1, v2, v3, v4, v5, v6, v7⟩ := mcS_v (S := S) (v := x) (w := w)
  have g : ∀ q o, 28 ≤ o → mcS S x w 5 q o = S 5 q o := fun q o ho => by
    by_cases c : q = S 0 0 3
    · rw [c]
      exact v7 o ho
    · rw [v4 q c]
  exact unT_le (fun q => ⟨g q 29 (by decide), fun i hi => ⟨g q _ (by omega), g q _ (by omega)⟩⟩) (fun p z => by rw [v1 3 (by decide) (by decide)] at z; exact z)
theorem un_job {k p nx' bh co wh q : Int} (h0 : 0 ≤ S 5 k 29) : un (jbS S k p nx' bh co wh) q ≤ un S q + (if q = k ∧ wh ≠ 0 then 1 else 0) := by
  obtain ⟨v1, v2, v3, v4, v5, v6, v7, v8, v9⟩ := jbS_v (S := S) (k := k) (p := p) (nx := nx') (bh := bh) (co := co) (wh := wh) h0
  generalize jbS S k p nx' bh co wh = T at *
  have e3 : ∀ p, T 3 p 3 = 0 → S 3 p 3 = 0 := fun p z => by rw [v1 3 (by decide)] at z; exact z
  by_cases c : q = k
  · rw [c]
    unfold un
    rw [v4]
    have e : sg (usb T k) 0 (S 5 k 29 + 1).toNat = sg (usb T k) 0 (S 5 k 29).toNat + usb T k (S 5 k 29) := sg_s h0
    have m : sg (usb T k) 0 (S 5 k 29).toNat ≤ sg (usb S k) 0 (S 5 k 29).toNat := sg_le _ _ (fun j j0 j1 => usb_le (fun z => by
      unfold ust at z ⊢
      rw [v3 _ (by omega) (by omega), v3 _ (by omega) (by omega)] at z
      exact ⟨z.1, e3 _ z.2⟩))
    have l : usb T k (S 5 k 29) ≤ if k = k ∧ wh ≠ 0 then 1 else 0 := by
      by_cases d : wh = 0
      · rw [if_neg (fun z => z.2 d), usb_0 (fun z => z.1 (v9.trans d))]
        exact Int.le_refl _
      · rw [if_pos ⟨rfl, d⟩]
        exact usb_01.2
    omega
  · rw [if_neg (fun z => c z.1)]
    have u := un_le (S := S) (S' := T) (q := q) (by rw [v2 q c]) (fun i _ => by rw [v2 q c]; exact ⟨rfl, rfl⟩) e3
    omega
theorem unT_job {k p nx' bh co wh : Int} (h0 : 0 ≤ S 5 k 29) : unT (jbS S k p nx' bh co wh) ≤ unT S + (if wh ≠ 0 then 1 else 0) := by
  have u := fun q => un_job (S := S) (k := k) (p := p) (nx' := nx') (bh := bh) (co := co) (wh := wh) (q := q) h0
  have u0 := u 0
  have u1 := u 1
  have u2 := u 2
  have u3' := u 3
  unfold unT
  by_cases d : wh = 0
  · rw [if_neg (fun z => z.2 d)] at u0 u1 u2 u3'
    rw [if_neg (fun z => z d)]
    omega
  · rw [if_pos d]
    have w : ∀ q, (if q = k ∧ wh ≠ 0 then (1 : Int) else 0) = if q = k then 1 else 0 := fun q => by
      by_cases c : q = k
      · rw [if_pos ⟨c, d⟩, if_pos c]
      · rw [if_neg (fun z => c z.1), if_neg c]
    rw [w] at u0 u1 u2 u3'
    by_cases c0 : (0 : Int) = k
    · rw [if_pos c0] at u0
      rw [if_neg (by omega)] at u1 u2 u3'
      omega
    · rw [if_neg c0] at u0
      by_cases c1 : (1 : Int) = k
      · rw [if_pos c1] at u1
        rw [if_neg (by omega)] at u2 u3'
        omega
      · rw [if_neg c1] at u1
        by_cases c2 : (2 : Int) = k
        · rw [if_pos c2] at u2
          rw [if_neg (by omega)] at u3'
          omega
        · rw [if_neg c2] at u2
          split at u3' <;> omega
theorem unT_give {k p : Int} (h0 : 0 ≤ S 5 k 29) : unT (jbS (u3 S 3 p 2 1) k p 0 0 0 1) ≤ unT S + 1 := by
  have e5 : u3 S 3 p 2 1 5 = S 5 := u3_r (by decide)
  have a := unT_job (S := u3 S 3 p 2 1) (k := k) (p := p) (nx' := 0) (bh := 0) (co := 0) (wh := 1) (by rw [e5]; exact h0)
  rw [if_pos (by decide)] at a
  have b := unT_c (S := S) (S' := u3 S 3 p 2 1) e5 (fun q => u3_no (by decide))
  omega
theorem unT_again {k p l : Int} (h0 : 0 ≤ S 5 k 29) : unT (jbS S k p l (l + 1) 0 0) ≤ unT S := by
  have a := unT_job (S := S) (k := k) (p := p) (nx' := l) (bh := l + 1) (co := 0) (wh := 0) h0
  rw [if_neg (by decide)] at a
  omega
theorem unT_story {S' : am_G} {t : Int → Int} {f du : Int} {l : List am_Pt} (st : stR t S f du l S') : unT S' ≤ unT S := by
  obtain ⟨q1, _, _, q8, q9⟩ := st
  refine unT_c (q1 5 (by decide) (by decide) (by decide)) (fun p => ?_)
  by_cases c : p < 5 * S 0 0 1 ∨ 5 * S 0 0 1 + l.length ≤ p
  · rw [q8 p c]
  · have ei : 5 * S 0 0 1 + (((p - 5 * S 0 0 1).toNat : Nat) : Int) = p := by omega
    have z := (q9 (p - 5 * S 0 0 1).toNat (by omega)).2.2.1 3 (by decide) (by decide)
    rw [ei] at z
    exact z
theorem unT_cor0 {p w : Int} {t row : Int → Int} {l : List am_Pz} (cw : chW t (S 3 p) w l row) : unT (setR S p row) ≤ unT S := by
  obtain ⟨x, y, cg, _⟩ := cw
  refine unT_c (setR_c (by decide)) (fun q => ?_)
  by_cases c : q = p
  · rw [c, setR_p]
    exact cg.2.1 3 (by decide) (by decide)
  · rw [setR_q c]
theorem unT_cor {p w k : Int} {t row : Int → Int} {l : List am_Pz} (ip : isP S p) (hk : 0 ≤ k ∧ k < S 0 0 3) (hw : 0 ≤ w ∧ w < (S 3 p) 0) (s3 : (S 3 p) 3 = 1) (nj : ¬ hsJ S p) (dl : 1 ≤ l.length) (d40 : (S 3 p) 1 - (wfR (S 3 p) w (S 3 p 1).toNat).2 + l.length ≤ 40) (cw : chW t (S 3 p) w l row) (z : (cT S p row (cA S p w)).1 ≠ -1) (h : okI S) : unT (cF S p w k row) ≤ unT S := by
  obtain ⟨y1, y2, y3, y4, y5, y6, y7, y8, y9⟩ := I_cQ ip hw s3 nj dl d40 cw z h
  have m29 := (h.1.2.1.1 k hk.1 (by have := h.1.1.1.2.2.1; omega)).2.2.2.1
  have q : unT (cQ S p w row) ≤ unT S := unT_c y5 (fun q => by
    by_cases c : q = p
    · rw [c, y3, s3]
    · have e : cQ S p w row 3 q = S 3 q := (pkS_q c _).trans (setR_q c)
      rw [e])
  unfold cF
  split
  · have a := unT_job (S := cQ S p w row) (k := k) (p := p) (nx' := cL S p w) (bh := cL S p w + cC S p w row) (co := 1) (wh := 0) (by rw [y5]; exact m29.1)
    rw [if_neg (by decide)] at a
    omega
  · exact q
end
