set_option maxRecDepth 100000
/-! the model reads conditions -/
theorem bE_b {t : Int → Int} {n a : Int} : bE t n (bE t n a) = bE t n a := bE_0 (bE_v (t := t) (n := n) (a := a)).2
theorem cdA_s {y : Int → Int} {k v : Int} {l : List Int} (h : cdA y k l) : cdA (am_uz y (k + l.length) v) k (l ++ [v]) := fun i hi => by
  rw [List.length_append] at hi
  have hi' : i < l.length + 1 := hi
  by_cases c : i = l.length
  · rw [c, am_uz_eq, gt_last]
  · rw [am_uz_ne (by omega), gt_app l i (by omega)]
    exact h i (by omega)
theorem cdA_f {y y' : Int → Int} {k : Int} {l : List Int} (h : cdA y k l) (e : ∀ i, i < k + l.length → y' i = y i) : cdA y' k l := fun i hi => by
  rw [e _ (by omega)]
  exact h i hi
theorem cdA_j {y : Int → Int} {k : Int} {l m : List Int} (h : cdA y k l) (g : cdA y (k + l.length) m) : cdA y k (l ++ m) := fun i hi => by
  rw [List.length_append] at hi
  by_cases c : i < l.length
  · rw [gt_app1 l i c]
    exact h i c
  · have e : i = l.length + (i - l.length) := by omega
    have q := g (i - l.length) (by omega)
    have e2 : k + (l.length : Int) + ((i - l.length : Nat) : Int) = k + i := by omega
    rw [e2] at q
    rw [q]
    conv => rhs; rw [e, gt_app2]
/-- constants of conditions -/
def CsC (b : am_H) (r : Nat) : Prop := csM b r 37 wNot ∧ csM b r 38 wHead ∧ csM b r 39 wLate ∧ csM b r 40 wCorr ∧ csM b r 41 wWords ∧ csM b r 42 wBits ∧ csM b r 43 wDue ∧ csM b r 44 wMin ∧ csM b r 45 wLett ∧ csM b r 46 wMach ∧ csM b r 26 wAnd ∧ csM b r 22 wOr
/-- a method of the model that reads a condition -/
def RdM (b : am_H) (r : Nat) (t : Int → Int) (n : Int) (y : Nat) (f : Int → am_Rs) (D0 : Nat) (k : Int) : Prop := ∀ (K : am_K) (S : am_G) (V : Nat → Int → Int) (W : Nat → Int) (a : Int) (D : Nat), D0 ≤ D → W 45 = n → W 46 = a → 0 ≤ a ∧ a ≤ n → W 48 = k → tpR t (V 4) n → 0 ≤ W 58 ∧ W 58 + (n - a) ≤ 562 → (∀ x V' W', f a = .inl x → fa [10] V V' → fa [46, 47, 48, 49, 58] W W' → W' 47 = x → K (.inl (some (.inl (0)))) (mo b r (ms S) V' W')) → (∀ q V' W', f a = .inr q → fa [10] V V' → fa [46, 47, 48, 49, 58] W W' → W' 46 = q.1 → W' 47 = W 47 → W' 48 = k → W' 58 = W 58 + q.2.cd.length → cdA (V' 10) (W 58) q.2.cd → (∀ i, i < W 58 → V' 10 i = V 10 i) → K (.inl (some (.inl (1)))) (mo b r (ms S) V' W')) → am_ev am_prog D y [.inr (.inl r)] (mo b r (ms S) V W) K
section
variable {K : am_K} {b : am_H} {r : Nat} {S : am_G} {V : Nat → Int → Int} {W : Nat → Int}
theorem c_tagHere {t : Int → Int} {n : Int} {D : Nat} (hD : 14 ≤ D) (h45 : W 45 = n) (hn : n ≤ 400) (h46 : 0 ≤ W 46 ∧ W 46 ≤ n) (tp : tpR t (V 4) n) (cs : CsC b r) (H0 : ∀ W', tagW (wAt t n (bE t n (W 46))) = -1 → fa [46] W W' → W' 46 = (bE t n (W 46)) → K (.inl (some (.inl (-1)))) (mo b r (ms S) V W')) (H1 : ∀ W', tagW (wAt t n (bE t n (W 46))) ≠ -1 → fa [46] W W' → W' 46 = (bE t n (W 46)) + (wAt t n (bE t n (W 46))).length → K (.inl (some (.inl (tagW (wAt t n (bE t n (W 46))))))) (mo b r (ms S) V W')) : am_ev am_prog D 421 [.inr (.inl r)] (mo b r (ms S) V W) K := by
  obtain ⟨c0, c1, c2, c3, cs⟩ := cs
  have bv := bE_v (t := t) (n := n) (a := W 46)
  have be := bv.1.2 h46.2
  have go : ∀ W' v, fa [46] W W' → tagW (wAt t n (bE t n (W 46))) = v → v ≠ -1 → W' 46 = (bE t n (W 46)) + (wAt t n (bE t n (W 46))).length → K (.inl (some (.inl (v)))) (mo b r (ms S) V W') := fun W' v hW e ne e46 => by
    rw [← e] at ne ⊢
    exact H1 W' ne hW e46
  obtain ⟨d, rfl⟩ : ∃ d, D = d + 4 := ⟨D - 4, by omega⟩
  refine am_en p_X5_tagHere rfl rfl ?_
  refine w_tagHere_0 (c_takes (t := t) (n := n) (by omega) h45 hn h46 tp c1 (by decide) (fun W1 n1 hW1 f1 => am_av (w_tagHere_3 ⟨fun _ => ?_, fun z => absurd rfl z⟩)) (fun W1 y1 hW1 f1 => am_av (w_tagHere_3 ⟨fun z => absurd z (by decide), fun _ => go W1 0 hW1 (if_pos y1) (by decide) (by rw [f1, y1])⟩)))
  refine c_takes (t := t) (n := n) (by omega) ((hW1 45 rfl).trans h45) hn (by omega) tp c2 (by decide) (fun W2 n2 hW2 f2 => am_av (w_tagHere_9 ⟨fun _ => ?_, fun z => absurd rfl z⟩)) (fun W2 y2 hW2 f2 => am_av (w_tagHere_9 ⟨fun z => absurd z (by decide), fun _ => ?_⟩))
  · rw [f1, bE_b] at n2 f2
    refine c_takes (t := t) (n := n) (by omega) ((hW2 45 rfl).trans ((hW1 45 rfl).trans h45)) hn (by omega) tp c3 (by decide) (fun W3 n3 hW3 f3 => am_av (w_tagHere_15 ⟨fun _ => ?_, fun z => absurd rfl z⟩)) (fun W3 y3 hW3 f3 => am_av (w_tagHere_15 ⟨fun z => absurd z (by decide), fun _ => ?_⟩))
    · rw [f2, bE_b] at n3 f3
      refine H0 W3 ?_ (fa_trans hW1 (fa_trans hW2 hW3)) f3
      unfold tagW
      rw [if_neg n1, if_neg n2, if_neg n3]
    · rw [f2, bE_b] at y3 f3
      refine go W3 2 (fa_trans hW1 (fa_trans hW2 hW3)) ?_ (by decide) (by rw [f3, y3])
      unfold tagW
      rw [if_neg n1, if_neg n2, if_pos y3]
  · rw [f1, bE_b] at y2 f2
    refine go W2 1 (fa_trans hW1 hW2) ?_ (by decide) (by rw [f2, y2])
    unfold tagW
    rw [if_neg n1, if_pos y2]
theorem c_factHere {t : Int → Int} {n : Int} {D : Nat} (hD : 14 ≤ D) (h45 : W 45 = n) (hn : n ≤ 400) (h46 : 0 ≤ W 46 ∧ W 46 ≤ n) (tp : tpR t (V 4) n) (cs : CsC b r) (H0 : ∀ W', facW (wAt t n (bE t n (W 46))) = -1 → fa [46] W W' → W' 46 = (bE t n (W 46)) → K (.inl (some (.inl (-1)))) (mo b r (ms S) V W')) (H1 : ∀ W', facW (wAt t n (bE t n (W 46))) ≠ -1 → fa [46] W W' → W' 46 = (bE t n (W 46)) + (wAt t n (bE t n (W 46))).length → K (.inl (some (.inl (facW (wAt t n (bE t n (W 46))))))) (mo b r (ms S) V W')) : am_ev am_prog D 422 [.inr (.inl r)] (mo b r (ms S) V W) K := by
  obtain ⟨c0, c1, c2, c3, c4, c5, c6, c7, c8, c9, cs⟩ := cs
  have bv := bE_v (t := t) (n := n) (a := W 46)
  have be := bv.1.2 h46.2
  have go : ∀ W' v, fa [46] W W' → facW (wAt t n (bE t n (W 46))) = v → v ≠ -1 → W' 46 = (bE t n (W 46)) + (wAt t n (bE t n (W 46))).length → K (.inl (some (.inl (v)))) (mo b r (ms S) V W') := fun W' v hW e ne e46 => by
    rw [← e] at ne ⊢
    exact H1 W' ne hW e46
  obtain ⟨d, rfl⟩ : ∃ d, D = d + 4 := ⟨D - 4, by omega⟩
  refine am_en p_X5_factHere rfl rfl ?_
  refine w_factHere_0 (c_takes (t := t) (n := n) (by omega) h45 hn h46 tp c4 (by decide) (fun W1 n1 hW1 f1 => am_av (w_factHere_3 ⟨fun _ => ?_, fun z => absurd rfl z⟩)) (fun W1 y1 hW1 f1 => am_av (w_factHere_3 ⟨fun z => absurd z (by decide), fun _ => go W1 0 hW1 (if_pos y1) (by decide) (by rw [f1, y1])⟩)))
  refine c_takes (t := t) (n := n) (by omega) ((hW1 45 rfl).trans h45) hn (by omega) tp c5 (by decide) (fun W2 n2 hW2 f2 => am_av (w_factHere_9 ⟨fun _ => ?_, fun z => absurd rfl z⟩)) (fun W2 y2 hW2 f2 => am_av (w_factHere_9 ⟨fun z => absurd z (by decide), fun _ => ?_⟩))
  rotate_left
  · rw [f1, bE_b] at y2 f2
    refine go W2 1 (fa_trans hW1 hW2) ?_ (by decide) (by rw [f2, y2])
    unfold facW
    rw [if_neg n1, if_pos y2]
  rw [f1, bE_b] at n2 f2
  have g2 := fa_trans hW1 hW2
  refine c_takes (t := t) (n := n) (by omega) ((g2 45 rfl).trans h45) hn (by omega) tp c6 (by decide) (fun W3 n3 hW3 f3 => am_av (w_factHere_15 ⟨fun _ => ?_, fun z => absurd rfl z⟩)) (fun W3 y3 hW3 f3 => am_av (w_factHere_15 ⟨fun z => absurd z (by decide), fun _ => ?_⟩))
  rotate_left
  · rw [f2, bE_b] at y3 f3
    refine go W3 2 (fa_trans g2 hW3) ?_ (by decide) (by rw [f3, y3])
    unfold facW
    rw [if_neg n1, if_neg n2, if_pos y3]
  rw [f2, bE_b] at n3 f3
  have g3 := fa_trans g2 hW3
  refine c_takes (t := t) (n := n) (by omega) ((g3 45 rfl).trans h45) hn (by omega) tp c7 (by decide) (fun W4 n4 hW4 f4 => am_av (w_factHere_21 ⟨fun _ => ?_, fun z => absurd rfl z⟩)) (fun W4 y4 hW4 f4 => am_av (w_factHere_21 ⟨fun z => absurd z (by decide), fun _ => ?_⟩))
  rotate_left
  · rw [f3, bE_b] at y4 f4
    refine go W4 3 (fa_trans g3 hW4) ?_ (by decide) (by rw [f4, y4])
    unfold facW
    rw [if_neg n1, if_neg n2, if_neg n3, if_pos y4]
  rw [f3, bE_b] at n4 f4
  have g4 := fa_trans g3 hW4
  refine c_takes (t := t) (n := n) (by omega) ((g4 45 rfl).trans h45) hn (by omega) tp c8 (by decide) (fun W5 n5 hW5 f5 => am_av (w_factHere_27 ⟨fun _ => ?_, fun z => absurd rfl z⟩)) (fun W5 y5 hW5 f5 => am_av (w_factHere_27 ⟨fun z => absurd z (by decide), fun _ => ?_⟩))
  rotate_left
  · rw [f4, bE_b] at y5 f5
    refine go W5 4 (fa_trans g4 hW5) ?_ (by decide) (by rw [f5, y5])
    unfold facW
    rw [if_neg n1, if_neg n2, if_neg n3, if_neg n4, if_pos y5]
  rw [f4, bE_b] at n5 f5
  have g5 := fa_trans g4 hW5
  refine c_takes (t := t) (n := n) (by omega) ((g5 45 rfl).trans h45) hn (by omega) tp c9 (by decide) (fun W6 n6 hW6 f6 => am_av (w_factHere_33 ⟨fun _ => ?_, fun z => absurd rfl z⟩)) (fun W6 y6 hW6 f6 => am_av (w_factHere_33 ⟨fun z => absurd z (by decide), fun _ => ?_⟩))
  rotate_left
  · rw [f5, bE_b] at y6 f6
    refine go W6 5 (fa_trans g5 hW6) ?_ (by decide) (by rw [f6, y6])
    unfold facW
    rw [if_neg n1, if_neg n2, if_neg n3, if_neg n4, if_neg n5, if_pos y6]
  rw [f5, bE_b] at n6 f6
  refine H0 W6 ?_ (fa_trans g5 hW6) f6
  unfold facW
  rw [if_neg n1, if_neg n2, if_neg n3, if_neg n4, if_neg n5, if_neg n6]
end
section
variable {b : am_H} {r : Nat} {t : Int → Int} {n : Int}
/-- a loop of them -/
theorem rd_all {f : Int → am_Rs} {s : Int} {g D0 : Nat} {k : Int} (hn : n ≤ 400) (cs : CsC b r) (hD0 : 14 ≤ D0) (hf : ∀ a q, a ≤ n → f a = .inr q → okAt t n s g a q) (rd : RdM b r t n 403 f D0 k) : RdM b r t n 387 (alR t n f) (D0 + 1) k := by
  intro K S V W a D hD h45 h46 ha h48 tp h58 H0 H1
  obtain ⟨c0, c1, c2, c3, c4, c5, c6, c7, c8, c9, cA, cO⟩ := cs
  obtain ⟨d, rfl⟩ : ∃ d, D = d + 4 := ⟨D - 4, by omega⟩
  refine am_en p_X5_readAll rfl rfl ?_
  have loop : ∀ (m : Nat) (e : Int) (c : am_Cd) (V1 : Nat → Int → Int) (W1 : Nat → Int), (n - e).toNat ≤ m → okAt t n s (g + 1) a (e, c) → fa [10] V V1 → fa [46, 47, 48, 49, 58] W W1 → W1 46 = e → W1 47 = W 47 → W1 48 = k → W1 58 = W 58 + c.cd.length → cdA (V1 10) (W 58) c.cd → (∀ i, i < W 58 → V1 10 i = V 10 i) → (∀ x V' W', lpR t n f wAnd .an e c = .inl x → fa [10] V V' → fa [46, 47, 48, 49, 58] W W' → W' 47 = x → K (.inl (some (.inl (0)))) (mo b r (ms S) V' W')) → (∀ q V' W', lpR t n f wAnd .an e c = .inr q → fa [10] V V' → fa [46, 47, 48, 49, 58] W W' → W' 46 = q.1 → W' 47 = W 47 → W' 48 = k → W' 58 = W 58 + q.2.cd.length → cdA (V' 10) (W 58) q.2.cd → (∀ i, i < W 58 → V' 10 i = V 10 i) → K (.inl (some (.inl (1)))) (mo b r (ms S) V' W')) → am_W m_X5_readAll (am_ev am_prog (d + 3)) K 5 [some (.inr (.inl r))] [] (mo b r (ms S) V1 W1) := by
    intro m
    induction m with
    | zero =>
      intro e c V1 W1 hm o hV hW e46 e47 e48 e58 cd old G0 G1
      have eo := o.1
      have eo' : a + 4 ≤ e ∧ e ≤ n := eo
      have bv := bE_v (t := t) (n := n) (a := e)
      have nw : ¬ wAt t n (bE t n e) = wAnd := fun h => by
        have := (wAt_b h (by decide)).1
        omega
      refine w_readAll_5 (c_takes (t := t) (n := n) (by omega) ((hW 45 rfl).trans h45) hn (by omega) (by rw [hV 4 rfl]; exact tp) cA (by decide) (fun W2 y2 hW2 f2 => am_av (w_readAll_8 ⟨fun _ => ?_, fun z => absurd rfl z⟩)) (fun W2 y2 hW2 f2 => ?_))
      · rw [e46] at f2
        exact G1 (bE t n e, c) V1 W2 (lpR_n nw) hV (fa_trans hW (fa_sub hW2 rfl)) f2 ((hW2 47 rfl).trans e47) ((hW2 48 rfl).trans e48) ((hW2 58 rfl).trans e58) cd old
      · rw [e46] at y2
        exact absurd y2 nw
    | succ m ih =>
      intro e c V1 W1 hm o hV hW e46 e47 e48 e58 cd old G0 G1
      have eo := o.1
      have eo' : a + 4 ≤ e ∧ e ≤ n := eo
      have bv := bE_v (t := t) (n := n) (a := e)
      have be := bv.1.2 eo'.2
      have e4 : V1 4 = V 4 := hV 4 rfl
      have cl : (c.cd.length : Int) ≤ e - a := o.2.2.2.2.2.1
      refine w_readAll_5 (c_takes (t := t) (n := n) (by omega) ((hW 45 rfl).trans h45) hn (by omega) (by rw [e4]; exact tp) cA (by decide) (fun W2 y2 hW2 f2 => am_av (w_readAll_8 ⟨fun _ => ?_, fun z => absurd rfl z⟩)) (fun W2 y2 hW2 f2 => am_av (w_readAll_8 ⟨fun z => absurd z (by decide), fun _ => ?_⟩)))
      · rw [e46] at f2 y2
        exact G1 (bE t n e, c) V1 W2 (lpR_n y2) hV (fa_trans hW (fa_sub hW2 rfl)) f2 ((hW2 47 rfl).trans e47) ((hW2 48 rfl).trans e48) ((hW2 58 rfl).trans e58) cd old
      · rw [e46] at f2 y2
        have f2' : W2 46 = bE t n e + 3 := f2
        have we := wAt_e y2 be
        have we' : bE t n e + 3 ≤ n := we
        have g58 : W2 58 = W 58 + c.cd.length := (hW2 58 rfl).trans e58
        refine rd _ S V1 W2 (bE t n e + 3) _ (by omega) ((hW2 45 rfl).trans ((hW 45 rfl).trans h45)) f2' (by omega) ((hW2 48 rfl).trans e48) (by rw [e4]; exact tp) (by omega) (fun x V3 W3 hx hV3 hW3 g47 => am_av (w_readAll_11 ⟨fun z => absurd rfl z, fun _ => ?_⟩)) (fun q V3 W3 hq hV3 hW3 g46 g47 g48 g58' cd3 old3 => am_av (w_readAll_11 ⟨fun _ => ?_, fun z => absurd z (by decide)⟩))
        · exact G0 x V3 W3 (lpR_y y2 hx) (fa_trans hV hV3) (fa_trans hW (fa_trans (fa_sub hW2 rfl) hW3)) g47
        · have oq := hf _ q we' hq
          have j := okAt_j (Or.inl ⟨rfl, rfl⟩) o y2 oq
          have jl : ((am_Cd.an c q.2).cd.length : Int) ≤ q.1 - a := j.1.2.2.2.2.2.1
          have cdl : (am_Cd.an c q.2).cd.length = c.cd.length + (q.2.cd.length + 1) := by
            show (c.cd ++ (q.2.cd ++ [5])).length = _
            rw [List.length_append, List.length_append]
            rfl
          rw [cdl] at jl
          have h58' : W3 58 = W 58 + c.cd.length + q.2.cd.length := by omega
          have qn := oq.1.2
          refine c_act (by omega) (by omega) (am_an (w_readAll_17 ?_))
          rw [lpR_z y2 hq j.2] at G0 G1
          have v10 : am_up V3 10 (am_uz (V3 10) (W3 58) 5) 10 = am_uz (V3 10) (W3 58) 5 := am_up_eq
          refine ih q.1 (.an c q.2) _ _ (by omega) j.1 (fa_up (fa_trans hV hV3) rfl) (fa_up (fa_trans hW (fa_trans (fa_sub hW2 rfl) hW3)) rfl) ((am_up_ne (by decide)).trans g46) ((am_up_ne (by decide)).trans (g47.trans ((hW2 47 rfl).trans e47))) ((am_up_ne (by decide)).trans g48) ?_ ?_ (fun i hi => ?_) G0 G1
          · rw [am_up_eq, cdl, h58']
            omega
          · rw [v10]
            show cdA (am_uz (V3 10) (W3 58) 5) (W 58) (c.cd ++ (q.2.cd ++ [5]))
            rw [g58] at cd3 old3
            have c1 : cdA (V3 10) (W 58) c.cd := cdA_f cd (fun i hi => old3 i hi)
            have c2 := cdA_j c1 cd3
            have c3 := cdA_s (v := 5) c2
            have el : W 58 + ((c.cd ++ q.2.cd).length : Int) = W3 58 := by
              rw [List.length_append, h58']
              omega
            rw [el, List.append_assoc] at c3
            exact c3
          · rw [v10, am_uz_ne (by omega), old3 i (by omega)]
            exact old i hi
  refine w_readAll_0 (rd _ S V W a _ (by omega) h45 h46 ha h48 tp h58 (fun x V3 W3 hx hV3 hW3 g47 => am_av (w_readAll_2 ⟨fun z => absurd rfl z, fun _ => H0 x V3 W3 ?_ hV3 hW3 g47⟩)) (fun q V3 W3 hq hV3 hW3 g46 g47 g48 g58 cd3 old3 => am_av (w_readAll_2 ⟨fun _ => ?_, fun z => absurd z (by decide)⟩)))
  · unfold alR
    rw [hx]
  · have er : alR t n f a = lpR t n f wAnd .an q.1 q.2 := by
      unfold alR
      rw [hq]
    rw [er] at H0 H1
    exact loop _ q.1 q.2 V3 W3 (Nat.le_refl _) (okAt_g (Nat.le_succ _) (hf a q ha.2 hq)) hV3 hW3 g46 g47 g48 g58 cd3 old3 H0 H1
/-- conditions, joined by a word: f reads what is joined -/
def anR' (t : Int → Int) (n : Int) (f : Int → am_Rs) (a : Int) : am_Rs := match f a with
  | .inl x => .inl x
  | .inr q => lpR t n f wOr .oo q.1 q.2
theorem anR_e {t : Int → Int} {n : Int} {f : Int → am_Rs} : anR t n f = anR' t n (alR t n f) := rfl
theorem rd_any {f : Int → am_Rs} {s : Int} {g D0 : Nat} {k : Int} (hn : n ≤ 400) (cs : CsC b r) (hD0 : 14 ≤ D0) (hf : ∀ a q, a ≤ n → f a = .inr q → okAt t n s g a q) (rd : RdM b r t n 387 f D0 k) : RdM b r t n 361 (anR' t n f) (D0 + 1) k := by
  intro K S V W a D hD h45 h46 ha h48 tp h58 H0 H1
  obtain ⟨c0, c1, c2, c3, c4, c5, c6, c7, c8, c9, cA, cO⟩ := cs
  obtain ⟨d, rfl⟩ : ∃ d, D = d + 4 := ⟨D - 4, by omega⟩
  refine am_en p_X5_readAny rfl rfl ?_
  have loop : ∀ (m : Nat) (e : Int) (c : am_Cd) (V1 : Nat → Int → Int) (W1 : Nat → Int), (n - e).toNat ≤ m → okAt t n s (g + 1) a (e, c) → fa [10] V V1 → fa [46, 47, 48, 49, 58] W W1 → W1 46 = e → W1 47 = W 47 → W1 48 = k → W1 58 = W 58 + c.cd.length → cdA (V1 10) (W 58) c.cd → (∀ i, i < W 58 → V1 10 i = V 10 i) → (∀ x V' W', lpR t n f wOr .oo e c = .inl x → fa [10] V V' → fa [46, 47, 48, 49, 58] W W' → W' 47 = x → K (.inl (some (.inl (0)))) (mo b r (ms S) V' W')) → (∀ q V' W', lpR t n f wOr .oo e c = .inr q → fa [10] V V' → fa [46, 47, 48, 49, 58] W W' → W' 46 = q.1 → W' 47 = W 47 → W' 48 = k → W' 58 = W 58 + q.2.cd.length → cdA (V' 10) (W 58) q.2.cd → (∀ i, i < W 58 → V' 10 i = V 10 i) → K (.inl (some (.inl (1)))) (mo b r (ms S) V' W')) → am_W m_X5_readAny (am_ev am_prog (d + 3)) K 5 [some (.inr (.inl r))] [] (mo b r (ms S) V1 W1) := by
    intro m
    induction m with
    | zero =>
      intro e c V1 W1 hm o hV hW e46 e47 e48 e58 cd old G0 G1
      have eo := o.1
      have eo' : a + 4 ≤ e ∧ e ≤ n := eo
      have bv := bE_v (t := t) (n := n) (a := e)
      have nw : ¬ wAt t n (bE t n e) = wOr := fun h => by
        have := (wAt_b h (by decide)).1
        omega
      refine w_readAny_5 (c_takes (t := t) (n := n) (by omega) ((hW 45 rfl).trans h45) hn (by omega) (by rw [hV 4 rfl]; exact tp) cO (by decide) (fun W2 y2 hW2 f2 => am_av (w_readAny_8 ⟨fun _ => ?_, fun z => absurd rfl z⟩)) (fun W2 y2 hW2 f2 => ?_))
      · rw [e46] at f2
        exact G1 (bE t n e, c) V1 W2 (lpR_n nw) hV (fa_trans hW (fa_sub hW2 rfl)) f2 ((hW2 47 rfl).trans e47) ((hW2 48 rfl).trans e48) ((hW2 58 rfl).trans e58) cd old
      · rw [e46] at y2
        exact absurd y2 nw
    | succ m ih =>
      intro e c V1 W1 hm o hV hW e46 e47 e48 e58 cd old G0 G1
      have eo := o.1
      have eo' : a + 4 ≤ e ∧ e ≤ n := eo
      have bv := bE_v (t := t) (n := n) (a := e)
      have be := bv.1.2 eo'.2
      have e4 : V1 4 = V 4 := hV 4 rfl
      have cl : (c.cd.length : Int) ≤ e - a := o.2.2.2.2.2.1
      refine w_readAny_5 (c_takes (t := t) (n := n) (by omega) ((hW 45 rfl).trans h45) hn (by omega) (by rw [e4]; exact tp) cO (by decide) (fun W2 y2 hW2 f2 => am_av (w_readAny_8 ⟨fun _ => ?_, fun z => absurd rfl z⟩)) (fun W2 y2 hW2 f2 => am_av (w_readAny_8 ⟨fun z => absurd z (by decide), fun _ => ?_⟩)))
      · rw [e46] at f2 y2
        exact G1 (bE t n e, c) V1 W2 (lpR_n y2) hV (fa_trans hW (fa_sub hW2 rfl)) f2 ((hW2 47 rfl).trans e47) ((hW2 48 rfl).trans e48) ((hW2 58 rfl).trans e58) cd old
      · rw [e46] at f2 y2
        have f2' : W2 46 = bE t n e + 2 := f2
        have we := wAt_e y2 be
        have we' : bE t n e + 2 ≤ n := we
        have g58 : W2 58 = W 58 + c.cd.length := (hW2 58 rfl).trans e58
        refine rd _ S V1 W2 (bE t n e + 2) _ (by omega) ((hW2 45 rfl).trans ((hW 45 rfl).trans h45)) f2' (by omega) ((hW2 48 rfl).trans e48) (by rw [e4]; exact tp) (by omega) (fun x V3 W3 hx hV3 hW3 g47 => am_av (w_readAny_11 ⟨fun z => absurd rfl z, fun _ => ?_⟩)) (fun q V3 W3 hq hV3 hW3 g46 g47 g48 g58' cd3 old3 => am_av (w_readAny_11 ⟨fun _ => ?_, fun z => absurd z (by decide)⟩))
        · exact G0 x V3 W3 (lpR_y y2 hx) (fa_trans hV hV3) (fa_trans hW (fa_trans (fa_sub hW2 rfl) hW3)) g47
        · have oq := hf _ q we' hq
          have j := okAt_j (Or.inr ⟨rfl, rfl⟩) o y2 oq
          have jl : ((am_Cd.oo c q.2).cd.length : Int) ≤ q.1 - a := j.1.2.2.2.2.2.1
          have cdl : (am_Cd.oo c q.2).cd.length = c.cd.length + (q.2.cd.length + 1) := by
            show (c.cd ++ (q.2.cd ++ [6])).length = _
            rw [List.length_append, List.length_append]
            rfl
          rw [cdl] at jl
          have h58' : W3 58 = W 58 + c.cd.length + q.2.cd.length := by omega
          have qn := oq.1.2
          refine c_act (by omega) (by omega) (am_an (w_readAny_17 ?_))
          rw [lpR_z y2 hq j.2] at G0 G1
          have v10 : am_up V3 10 (am_uz (V3 10) (W3 58) 6) 10 = am_uz (V3 10) (W3 58) 6 := am_up_eq
          refine ih q.1 (.oo c q.2) _ _ (by omega) j.1 (fa_up (fa_trans hV hV3) rfl) (fa_up (fa_trans hW (fa_trans (fa_sub hW2 rfl) hW3)) rfl) ((am_up_ne (by decide)).trans g46) ((am_up_ne (by decide)).trans (g47.trans ((hW2 47 rfl).trans e47))) ((am_up_ne (by decide)).trans g48) ?_ ?_ (fun i hi => ?_) G0 G1
          · rw [am_up_eq, cdl, h58']
            omega
          · rw [v10]
            show cdA (am_uz (V3 10) (W3 58) 6) (W 58) (c.cd ++ (q.2.cd ++ [6]))
            rw [g58] at cd3 old3
            have c1 : cdA (V3 10) (W 58) c.cd := cdA_f cd (fun i hi => old3 i hi)
            have c2 := cdA_j c1 cd3
            have c3 := cdA_s (v := 6) c2
            have el : W 58 + ((c.cd ++ q.2.cd).length : Int) = W3 58 := by
              rw [List.length_append, h58']
              omega
            rw [el, List.append_assoc] at c3
            exact c3
          · rw [v10, am_uz_ne (by omega), old3 i (by omega)]
            exact old i hi
  refine w_readAny_0 (rd _ S V W a _ (by omega) h45 h46 ha h48 tp h58 (fun x V3 W3 hx hV3 hW3 g47 => am_av (w_readAny_2 ⟨fun z => absurd rfl z, fun _ => H0 x V3 W3 ?_ hV3 hW3 g47⟩)) (fun q V3 W3 hq hV3 hW3 g46 g47 g48 g58 cd3 old3 => am_av (w_readAny_2 ⟨fun _ => ?_, fun z => absurd z (by decide)⟩)))
  · unfold anR'
    rw [hx]
  · have er : anR' t n f a = lpR t n f wOr .oo q.1 q.2 := by
      unfold anR'
      rw [hq]
    rw [er] at H0 H1
    exact loop _ q.1 q.2 V3 W3 (Nat.le_refl _) (okAt_g (Nat.le_succ _) (hf a q ha.2 hq)) hV3 hW3 g46 g47 g48 g58 cd3 old3 H0 H1
end
