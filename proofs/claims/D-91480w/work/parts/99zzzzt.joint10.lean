set_option maxRecDepth 100000
section
variable {h h' : am_H} {L L' : am_Lb} {x P r o s : Nat} {sc : Int → Int} {ns : Int} {N I : Nat} {S S' m SI : am_G} {B B' BI : Int} {t t' : Int → Int} {n n' fl fl' : Int} {V V' : Nat → Int → Int} {W W' : Nat → Int} {Z U c : Nat}
theorem ox_0 (j1 : JB x P r o s sc ns L N I h) {q : Nat} (z : (L q).1 = N ∨ ((L q).1 = x ∧ ((L q).2.1 = 1 ∨ (L q).2.1 = 2)) ∨ q = x) : (L q).1 ≠ 0 := by
  have n4 := j1.2.2.2.2.2.2.1
  rcases z with z | z | z
  · rw [z]
    exact n4.2.2.2
  · rw [z.1]
    exact n4.1
  · rw [z, j1.1.2.2]
    exact n4.1
/-- any call of the room -/
theorem JH_XF {dz du : Nat} (j : JH x P r o s sc ns L N I S m SI B BI t n fl V W h) (a : OutX h L x N h' L' dz du) (nt : Nt h' L' x P N S' B') (tp : TpX h' L' x t' n') (ef : am_fi h' 5 x = fl') : JH x P r o s sc ns L' N I S' m SI B' BI t' n' fl' V W h' := by
  obtain ⟨j1, j2, j3, j4, j5, j6, j7⟩ := j
  obtain ⟨jb, mc⟩ := JB_X j1 a
  refine ⟨jb, nt, mc _ _ _ j3, ?_, tp, ef, WD_fx a.1 a.2.1 (fun q _ z => ox_0 j1 z) j7⟩
  rcases j4 with c | ⟨c1, c2, c3, c4, c5⟩
  · exact Or.inl c
  · exact Or.inr ⟨c1, c2, Rep_X j1 a j2.1 j2.2.1.1 c3, c4, c5⟩
/-- the tape is at its beginning -/
theorem TpX_0 {dz du : Nat} (a : OutX h L x N h' L' dz du) (f4 : am_fi h' 4 x = 0) (tp : TpX h L x t n) : TpX h' L' x t 0 := by
  obtain ⟨t1, ⟨d1, d2, d3, d4⟩, t3, t4, t5⟩ := tp
  have k := a.1.2.2.2 _ d2
  have z := a.1.1
  unfold TpX
  rw [a.2.2.2.2.1 3]
  exact ⟨f4, ⟨k.1.trans d1, by omega, d3, (a.2.1 _ d2).trans d4⟩, k.2.1.trans t3, ⟨by decide, by decide⟩, fun j a b => absurd b (by omega)⟩
/-- a reader's call: nothing is written -/
theorem JG_R {y : Nat} {as : List am_V} {Ψ : am_H → am_R → Prop} {R : am_G → Prop} {k : Int} {v : am_R} {dz du : Nat} (u : (JH x P r o s sc ns L N I S S SI B BI t n (W 47) V W h ∧ okI S ∧ (tpR t (V 4) n ∧ W 44 = n) ∧ okVs V ∧ (B ≤ 1000 * c + 400 ∧ unT S ≤ c ∧ unT SI ≤ c) ∧ (am_sz h ≤ Z + 9400 * c ∧ am_us h ≤ U + 96000 * c))) (ox : OutX h L x N h' L' dz du) (f4 : am_fi h' 4 x = 0) (f5 : am_fi h' 5 x = fl) (zz : dz ≤ 9400) (uu : du ≤ 96000) (hB : B' ≤ B + 1000) (he : ∀ S', R S' → Nt h' L' x P N S' B' ∧ okI S' ∧ unT S' ≤ unT S + 1) (hΨ : ∀ h2, am_fi h2 38 r = k → Ψ h2 v) (hm : ∀ (b : am_H) (K2 : am_K) (D : Nat), 90 ≤ D → CsR b r → (∀ S' V' W', R S' → pF V W V' W' 0 fl → W' 38 = k → K2 v (mo b r (ms S') V' W')) → am_ev am_prog D y (.inr (.inl r) :: as) (mo b r (ms S) V W) K2) : JG x P r o s sc ns Z U c y as Ψ h' := by
  obtain ⟨j, oi, tp, okv, ⟨b1, b2, b3⟩, z1, z2⟩ := u
  have o3 := ox.2.2.1
  have j1 := j.1
  obtain ⟨jb, mc⟩ := JB_X j1 ox
  have mc' := mc _ _ _ j.2.2.1
  have wd := WD_fx ox.1 ox.2.1 (fun q _ z => ox_0 j1 z) j.2.2.2.2.2.2
  have cr : CsR h' r := WD_R jb.2.2.1.2 jb.2.2.2.2.2.2.1.2.1 (MoC_id mc') wd
  have tp' := TpX_0 ox f4 j.2.2.2.2.1
  refine JG_m (RR := fun a b e => R a ∧ b = k ∧ e = v) (t := t) (n := 0) (fl := fl) (B' := B') (BI := BI) (SI := SI) jb mc' (fun a b e g => ?_) (by omega) (by omega) (by omega) (by omega) (fun K2 D hD H => hm h' K2 D hD cr (fun S' V' W' rr p w => H S' k v V' W' ⟨rr, rfl, rfl⟩ (pF_pJ (fun j a b => absurd b (by omega)) p) w))
  obtain ⟨g1, g2, g3⟩ := g
  subst g2 g3
  obtain ⟨q1, q2, q3⟩ := he a g1
  exact ⟨JH_XF j ox q1 tp' f5, q2, by omega, fun h2 e _ => hΨ h2 e⟩
/-- .. the answer is written -/
theorem JG_Rs {y : Nat} {as : List am_V} {Ψ : am_H → am_R → Prop} {R : am_G → Prop} {a : Int} {v : am_R} {dz du : Nat} (u : (JH x P r o s sc ns L N I S S SI B BI t n (W 47) V W h ∧ okI S ∧ (tpR t (V 4) n ∧ W 44 = n) ∧ okVs V ∧ (B ≤ 1000 * c + 400 ∧ unT S ≤ c ∧ unT SI ≤ c) ∧ (am_sz h ≤ Z + 9400 * c ∧ am_us h ≤ U + 96000 * c))) (ox : OutX h L x N h' L' dz du) (f4 : am_fi h' 4 x = 0) (f5 : am_fi h' 5 x = fl) (zz : dz ≤ 9400) (uu : du ≤ 96000) (hB : B' ≤ B + 1000) (he : ∀ S', R S' → Nt h' L' x P N S' B' ∧ okI S' ∧ unT S' ≤ unT S + 1) (hΨ : ∀ h2, am_fi h2 38 r = 0 → am_ai h2 o 0 = a → Ψ h2 v) (hm : ∀ (b : am_H) (K2 : am_K) (D : Nat), 90 ≤ D → CsR b r → (∀ S' V' W', R S' → pF V W V' W' 0 fl → W' 38 = 0 → K2 v (mo b r (ms S') V' W')) → am_ev am_prog D y (.inr (.inl r) :: as) (mo b r (ms S) V W) K2) : (am_ty h' o = 104 ∧ ((0 : Int) ≤ 0 ∧ 0 < am_ln h' o)) ∧ JG x P r o s sc ns Z U c y as Ψ (am_sai h' o 0 a) := by
  obtain ⟨j, oi, tp, okv, ⟨b1, b2, b3⟩, z1, z2⟩ := u
  have o3 := ox.2.2.1
  have j1 := j.1
  obtain ⟨jb, mc⟩ := JB_X j1 ox
  have mc' := mc _ _ _ j.2.2.1
  have wd := WD_fx ox.1 ox.2.1 (fun q _ z => ox_0 j1 z) j.2.2.2.2.2.2
  have tp' := TpX_0 ox f4 j.2.2.2.2.1
  have jo := jb.2.2.2.1
  obtain ⟨jb2, fo⟩ := JB_o (i := 0) (y := a) jb
  have mc2 := MoC_fx fo jb.2.2.1.1 (fun i hi z => by
    have l := jb.2.2.1.2 i hi
    rw [z, jo.2.2.2] at l
    exact jb.2.2.2.2.2.2.2.1.2.2.2.1 l.symm) mc'
  have wd2 := WD_fx fo leL_refl (fun q _ z => by rw [z, jo.2.2.2]; exact jb.2.2.2.2.2.2.1.2.2.1) wd
  have jh2 : ∀ S', R S' → JH x P r o s sc ns L' N I S' S SI B' BI t 0 fl V W (am_sai h' o 0 a) := fun S' rr => JH_o (JH_XF j ox (he S' rr).1 tp' f5)
  have cr : CsR (am_sai h' o 0 a) r := WD_R jb2.2.2.1.2 jb2.2.2.2.2.2.2.1.2.1 (MoC_id mc2) wd2
  have ea : am_ai (am_sai h' o 0 a) o 0 = a := by rw [x_aise, am_uz_eq]
  have ez : am_sz (am_sai h' o 0 a) = am_sz h' := rfl
  have eu : am_us (am_sai h' o 0 a) = am_us h' := rfl
  refine ⟨⟨jo.1, by decide, by rw [jo.2.1]; decide⟩, ?_⟩
  generalize am_sai h' o 0 a = h1 at *
  refine JG_m (RR := fun a b e => R a ∧ b = 0 ∧ e = v) (t := t) (n := 0) (fl := fl) (B' := B') (BI := BI) (SI := SI) jb2 mc2 (fun a' b e g => ?_) (by omega) (by omega) (by omega) (by omega) (fun K2 D hD H => hm h1 K2 D hD cr (fun S' V' W' rr p w => H S' 0 v V' W' ⟨rr, rfl, rfl⟩ (pF_pJ (fun j a b => absurd b (by omega)) p) w))
  obtain ⟨g1, g2, g3⟩ := g
  subst g2 g3
  exact ⟨jh2 a' g1, (he a' g1).2.1, by have := (he a' g1).2.2; omega, fun h2 e w => hΨ h2 e (w.trans ea)⟩
end
theorem lr_f {A B : Type} {s : A ⊕ B} {a : A} {b : B} {p : Prop} (h : s = .inl a) (g : s = .inr b) : p := by
  rw [h] at g
  cases g
theorem ll_f {A B : Type} {s : A ⊕ B} {a b : A} (h : s = .inl a) (g : s = .inl b) : b = a := by
  rw [h] at g
  injection g with g
  exact g.symm
theorem rr_f {A B : Type} {s : A ⊕ B} {a b : B} (h : s = .inr a) (g : s = .inr b) : b = a := by
  rw [h] at g
  injection g with g
  exact g.symm
section
variable {h : am_H} {x P r o s : Nat} {sc : Int → Int} {ns : Int} {Z U c : Nat}
theorem J_story {K : am_K} {a1 a2 : Int} {D : Nat} (hD : 110 ≤ D) (hc : c ≤ 64) (hi1 : (-2147483648 ≤ a1 ∧ a1 ≤ 2147483647)) (hi2 : (-2147483648 ≤ a2 ∧ a2 ≤ 2147483647)) (js : JS x P r o s sc ns Z U c h) (H : ∀ kk h1, JG x P r o s sc ns Z U c 65 [.inl a1, .inl a2] (PI r o kk) h1 → K (.inl (some (.inl (kk)))) h1) : am_ev am_prog D 25 [.inr (.inl x), .inl a1, .inl a2, .inr (.inl o)] h K := by
  obtain ⟨L, N, I, S, SI, B, BI, t, n, V, W, u⟩ := js
  have j1 := u.1.1
  have nt := u.1.2.1
  have oi := u.2.1
  have hC := oi.1.1.1
  obtain rfl := u.2.2.1.2
  have tpx := u.1.2.2.2.2.1
  have f5 := u.1.2.2.2.2.2.1
  have h44 := tpx.2.2.2.1
  have tpv := u.2.2.1.1
  have okv := u.2.2.2.1
  have bB : B ≤ 1000000 := by have := u.2.2.2.2.1.1; omega
  obtain ⟨d, rfl⟩ : ∃ d, D = d + 13 := ⟨D - 13, by omega⟩
  refine am_en p_X0_story rfl rfl ?_
  refine v_X0_story_0 ⟨j1.1.1, X_story (by omega) nt j1.1.1 j1.2.1.2.1 hC j1.1.2.1 j1.1.2.2 bB oi.1.1.2.1 (fun p a b y => (oi.2.2.2.2 p a b y).2.1) oi.1.2.1.1 oi.1.1.2.2.2.2.2.2.2.1 tpx ?_ ?_ ?_ ?_ ?_⟩
  · intro g0 h' q nt' ox ty f4 f5'
    exact am_ah (by rw [ty]; rfl) (v_X0_story_9 (H _ _ (JG_R (R := fun S' => S' = S) (v := .inl (some (.inl (0)))) u ox f4 (f5'.trans f5) (by decide) (by decide) (by omega) (fun S' e => by subst e; exact ⟨nt', oi, by omega⟩) (fun h2 e => PI_t (by decide) h2 e) (fun b K2 D hD _ hm => M_story hD hC okv h44 tpv (fun _ => fun V' W' p w => hm S V' W' rfl p w) (fun g => absurd g g0) (fun g => absurd g g0) (fun g => absurd g g0) (fun g => absurd g g0)))))
  · intro g0 g1 h' q nt' ox ty f4 f5'
    exact am_ah (by rw [ty]; rfl) (v_X0_story_12 (H _ _ (JG_R (R := fun S' => S' = S) (v := .inl (some (.inl (0)))) u ox f4 (f5'.trans f5) (by decide) (by decide) (by omega) (fun S' e => by subst e; exact ⟨nt', oi, by omega⟩) (fun h2 e => PI_t (by decide) h2 e) (fun b K2 D hD _ hm => M_story hD hC okv h44 tpv (fun g => absurd g0 g) (fun _ _ => fun V' W' p w => hm S V' W' rfl p w) (fun _ g => absurd g g1) (fun _ g => absurd g g1) (fun _ g => absurd g g1)))))
  · intro g0 g1 p gp h' q nt' ox ty f4 f5'
    exact am_ah (by rw [ty]; rfl) (v_X0_story_12 (H _ _ (JG_R (R := fun S' => S' = S) (v := .inl (some (.inl (0)))) u ox f4 f5' (by decide) (by decide) (by omega) (fun S' e => by subst e; exact ⟨nt', oi, by omega⟩) (fun h2 e => PI_t (by decide) h2 e) (fun b K2 D hD _ hm => M_story hD hC okv h44 tpv (fun g => absurd g0 g) (fun _ g => absurd g1 g) (fun _ _ x' e => by rw [ll_f gp e]; exact fun V' W' p w => hm S V' W' rfl p w) (fun _ _ l e => lr_f gp e) (fun _ _ l S' e => lr_f gp e)))))
  · intro g0 g1 l gl g20 h' q nt' ox ty f4 f5'
    exact am_ah (by rw [ty]; rfl) (v_X0_story_15 (H _ _ (JG_R (R := fun S' => S' = S) (v := .inl (some (.inl (0)))) u ox f4 f5' (by decide) (by decide) (by omega) (fun S' e => by subst e; exact ⟨nt', oi, by omega⟩) (fun h2 e => PI_t (by decide) h2 e) (fun b K2 D hD _ hm => M_story hD hC okv h44 tpv (fun g => absurd g0 g) (fun _ g => absurd g1 g) (fun _ _ x' e => lr_f e gl) (fun _ _ l' e _ => fun V' W' p w => hm S V' W' rfl p w) (fun _ _ l' S' e _ y => absurd g20 y)))))
  · intro g0 g1 l gl n20 h' L' nt' ox f4 f5'
    have e := JG_Rs (c := c) (R := fun S' => l.length ≤ 5 ∧ stR t S a1 a2 l S') (Ψ := PI r o 0) (v := .inl (some (.inl (S 0 0 1)))) (y := 65) (as := [.inl a1, .inl a2]) u ox f4 f5' (by decide) (by decide) (by omega) (fun S' z => ⟨nt' S' z.2, I_story g0 g1 n20 (soR_1 _ _ _ _ gl) z.1 z.2 oi, by have := unT_story z.2; omega⟩) (fun h2 a b => ⟨_, rfl, a, fun _ => b⟩) (fun b K2 D hD _ hm => M_story hD hC okv h44 tpv (fun g => absurd g0 g) (fun _ g => absurd g1 g) (fun _ _ x' e => lr_f e gl) (fun _ _ l' e y => absurd y n20) (fun _ _ l' S' e l5 _ st V' W' p w => hm S' V' W' (by rw [← rr_f gl e]; exact ⟨l5, st⟩) p w))
    exact am_av (v_X0_story_6 ⟨e.1, H _ _ e.2⟩)
theorem J_style {K : am_K} {a1 : Int} {D : Nat} (hD : 110 ≤ D) (hc : c ≤ 64) (hi1 : (-2147483648 ≤ a1 ∧ a1 ≤ 2147483647)) (js : JS x P r o s sc ns Z U c h) (H : ∀ kk h1, JG x P r o s sc ns Z U c 46 [.inl a1] (PI r o kk) h1 → K (.inl (some (.inl (kk)))) h1) : am_ev am_prog D 19 [.inr (.inl x), .inl a1, .inr (.inl o)] h K := by
  obtain ⟨L, N, I, S, SI, B, BI, t, n, V, W, u⟩ := js
  have j1 := u.1.1
  have nt := u.1.2.1
  have oi := u.2.1
  have hC := oi.1.1.1
  obtain rfl := u.2.2.1.2
  have tpx := u.1.2.2.2.2.1
  have f5 := u.1.2.2.2.2.2.1
  have h44 := tpx.2.2.2.1
  have tpv := u.2.2.1.1
  have okv := u.2.2.2.1
  have bB : B ≤ 1000000 := by have := u.2.2.2.2.1.1; omega
  have h02 := oi.1.1.2.2.2.2.1.1
  obtain ⟨d, rfl⟩ : ∃ d, D = d + 13 := ⟨D - 13, by omega⟩
  refine am_en p_X0_style rfl rfl ?_
  refine v_X0_style_0 ⟨j1.1.1, X_style (by omega) nt j1.1.1 j1.2.1.2.1 hC j1.1.2.1 j1.1.2.2 bB h02 tpx (WD_S u.1.2.2.2.2.2.2) ?_ ?_ ?_ ?_⟩
  · intro g0 h' q nt' ox ty f4 f5'
    exact am_ah (by rw [ty]; rfl) (v_X0_style_8 (H _ _ (JG_R (R := fun S' => S' = S) (v := .inl (some (.inl (0)))) u ox f4 (f5'.trans f5) (by decide) (by decide) (by omega) (fun S' e => by subst e; exact ⟨nt', oi, by omega⟩) (fun h2 e => PI_t (by decide) h2 e) (fun b K2 D hD cr hm => M_style hD h02 cr okv h44 tpv (fun _ => fun V' W' p w => hm S V' W' rfl p w) (fun g => absurd g g0) (fun g => absurd g g0) (fun g => absurd g g0)))))
  · intro g0 p gp h' q nt' ox ty f4 f5'
    exact am_ah (by rw [ty]; rfl) (v_X0_style_8 (H _ _ (JG_R (R := fun S' => S' = S) (v := .inl (some (.inl (0)))) u ox f4 f5' (by decide) (by decide) (by omega) (fun S' e => by subst e; exact ⟨nt', oi, by omega⟩) (fun h2 e => PI_t (by decide) h2 e) (fun b K2 D hD cr hm => M_style hD h02 cr okv h44 tpv (fun g => absurd g0 g) (fun _ x' e => by rw [ll_f gp e]; exact fun V' W' p w => hm S V' W' rfl p w) (fun _ l e => lr_f gp e) (fun _ l S' e => lr_f gp e)))))
  · intro g0 l gl g10 h' q nt' ox ty f4 f5'
    exact am_ah (by rw [ty]; rfl) (v_X0_style_11 (H _ _ (JG_R (R := fun S' => S' = S) (v := .inl (some (.inl (0)))) u ox f4 f5' (by decide) (by decide) (by omega) (fun S' e => by subst e; exact ⟨nt', oi, by omega⟩) (fun h2 e => PI_t (by decide) h2 e) (fun b K2 D hD cr hm => M_style hD h02 cr okv h44 tpv (fun g => absurd g0 g) (fun _ x' e => lr_f e gl) (fun _ l' e _ => fun V' W' p w => hm S V' W' rfl p w) (fun _ l' S' e y => absurd g10 y)))))
  · intro g0 l gl n10 h' L' nt' ox f4 f5'
    have e := JG_Rs (c := c) (R := fun S' => syT S a1 l S') (Ψ := PI r o 0) (v := .inl (some (.inl ((l.length : Int))))) (y := 46) (as := [.inl a1]) u ox f4 f5' (by decide) (by decide) (by omega) (fun S' z => ⟨nt' S' z, I_style g0 n10 z oi, Int.le_trans (unT_c5 (z.1 5 (by decide) (by decide)) (z.1 3 (by decide) (by decide))) (by omega)⟩) (fun h2 a b => ⟨_, rfl, a, fun _ => b⟩) (fun b K2 D hD cr hm => M_style hD h02 cr okv h44 tpv (fun g => absurd g0 g) (fun _ x' e => lr_f e gl) (fun _ l' e y => absurd y n10) (fun _ l' S' e _ st => by rw [rr_f gl e] at st ⊢; exact fun V' W' p w => hm S' V' W' st p w))
    exact am_av (v_X0_style_5 ⟨e.1, H _ _ e.2⟩)
end
