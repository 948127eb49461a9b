set_option maxRecDepth 100000
theorem PLs_fy {K : am_K} {hb h h' : am_H} {A Lr : Nat} {t : Int → Int} {done : List am_Pt} {X : Nat → Prop} (f : fx X h h') (g : ∀ q, q ≤ am_sz h → X q → am_ty h q = 1 ∨ am_ty h q = 3 ∨ am_ty h q = 9 ∨ am_ty h q = 111) (ls : PLs hb h Lr A t done) : PLs hb h' Lr A t done ∧ am_fr h' 194 Lr = am_fr h 194 Lr ∧ am_ar h' (am_fr h 194 Lr) = am_ar h (am_fr h 194 Lr) := by
  obtain ⟨x1, x2, x3, x4, x5, x6⟩ := ls
  obtain ⟨⟨v1, v2, v3, v4, v5⟩, w1, w2, w3⟩ := x1
  obtain ⟨a1, a2, a3⟩ := f.2.2.2 Lr v5.1
  obtain ⟨b1, b2, b3⟩ := f.2.2.2 _ v5.2
  obtain ⟨c1, c2, c3, c4⟩ := a3 (fun z => by
    have := g Lr v5.1 z
    omega)
  obtain ⟨d1, d2, d3, d4⟩ := b3 (fun z => by
    have := g _ v5.2 z
    omega)
  refine ⟨⟨⟨⟨?_, ?_, ?_, ?_, ?_⟩, ?_, ?_, ?_⟩, x2, ?_, ?_, ?_, fun k hk => ?_⟩, c2 194, d4⟩
  · rw [a1]; exact v1
  · rw [c2, b1]; exact v2
  · rw [c1, c2, b2]; exact v3
  · rw [c2, b2]; exact v4
  · rw [c2]; exact ⟨Nat.le_trans v5.1 f.1, Nat.le_trans v5.2 f.1⟩
  · rw [c2, b2]; exact w1
  · rw [c2, b2, f.2.2.1]; exact w2
  · rw [c2, b2, b1]; exact w3
  · rw [c1]; exact x3
  · rw [c2, b2]; exact x4
  · rw [c1]; exact x5
  · rw [c2, d4]
    refine arC_fx f (fun q hq z => ?_) (x6 k hk)
    have k := g q hq z
    refine ⟨by omega, by omega, by omega, fun y => ?_⟩
    omega
/-- a new part's cell -/
def PcO (h0 h : am_H) (L : am_Lb) (N A : Nat) (t : Int → Int) (c : Nat) (p f du : Int) (x : am_Pt) : Prop := nd h L c 9 N 3 1 p ∧ (am_fi h 110 c = p ∧ am_fi h 111 c = f ∧ am_fi h 112 c = du ∧ am_fi h 114 c = x.1 ∧ am_fi h 115 c = 0) ∧ (am_fr h 116 c = 0 ∧ am_fr h 117 c = 0 ∧ am_fr h 118 c = 0) ∧ arC h0 h A t (am_fr h 113 c) x.2
theorem PcO_fx {X : Nat → Prop} {h0 h h' : am_H} {L L' : am_Lb} {N A c : Nat} {t : Int → Int} {p f du : Int} {x : am_Pt} (a : fx X h h') (le : leL h L L') (g : ∀ q, q ≤ am_sz h → X q → am_ty h q = 3 ∨ am_ty h q = 111) (o : PcO h0 h L N A t c p f du x) : PcO h0 h' L' N A t c p f du x := by
  obtain ⟨o1, o2, o3, o4⟩ := o
  have nX : ¬ X c := fun z => by
    have := g c o1.2.1 z
    have := o1.1
    omega
  have y := nd_fx a le o1 nX
  unfold PcO
  rw [y.2.2.1, y.2.2.1, y.2.2.1, y.2.2.1, y.2.2.1, y.2.2.2.1, y.2.2.2.1, y.2.2.2.1, y.2.2.2.1]
  refine ⟨y.1, o2, o3, arC_fx a (fun q hq z => ?_) o4⟩
  have k := g q hq z
  refine ⟨by omega, by omega, by omega, fun y => ?_⟩
  omega
theorem okLb_lb {X : Nat → Prop} {h h' : am_H} {L : am_Lb} {c : Nat} {o : Nat × Nat × Nat × Int} (ok : okLb h L) (a : fx X h h') (hc : am_sz h < c ∧ c ≤ am_sz h') (ty : ¬ imT (am_ty h' c)) : okLb h' (lbA L h c o) := by
  have k := okLb_fx a ok
  refine ⟨k.1, fun q hq z => ?_, fun q hq => ?_⟩
  · by_cases e : q = c
    · rw [e] at z
      exact absurd z ty
    · have e2 : lbA L h c o q = L q := if_neg (fun y => e y.1)
      rw [e2]
      exact k.2.1 q hq z
  · have e2 : lbA L h c o q = L q := if_neg (fun y => absurd y.1 (by omega))
    rw [e2]
    exact k.2.2 q hq
theorem gD_mem : ∀ (l : List am_Pt) (k : Nat), k < l.length → gD l k ∈ l
  | [], _, h => absurd h (by simp)
  | x :: l, 0, _ => List.mem_cons_self
  | x :: l, k + 1, h => List.mem_cons_of_mem _ (gD_mem l k (by simpa using h))
/-- parts that were read are right -/
theorem soR_ok {t : Int → Int} {n : Int} : ∀ (f : Nat) (a : Int) (done : List am_Pt), (∀ x, x ∈ done → okPt t x) → ∀ l, soR t n f a done = .inr l → ∀ x, x ∈ l → okPt t x
  | 0, a, done, _, l, h => by
    have h' : (Sum.inl a : Int ⊕ List am_Pt) = .inr l := h
    cases h'
  | f + 1, a, done, hd, l, h => by
    have h' : soT t n done.length (paR t n (bE t n a) 0 []) (fun z p => soR t n f z (done ++ [p])) done = .inr l := h
    cases e : paR t n (bE t n a) 0 [] with
    | inl x =>
      rw [e] at h'
      have h2 : (Sum.inl x : Int ⊕ List am_Pt) = .inr l := h'
      cases h2
    | inr q =>
      have v := paR_v (n - bE t n a).toNat (bE t n a) 0 [] (Nat.le_refl _) (by omega) (by simp) rfl q e
      have od : ∀ x, x ∈ done ++ [q.2] → okPt t x := fun x hx => by
        rcases List.mem_append.1 hx with hx | hx
        · exact hd x hx
        · have hx' : x = q.2 := by simpa using hx
          rw [hx']
          exact v.2
      rw [e] at h'
      have h2 : (if n ≤ q.1 then .inr (done ++ [q.2]) else if t q.1 = 47 ∧ done.length + 1 ≠ 5 then soR t n f (q.1 + 1) (done ++ [q.2]) else .inl q.1) = (Sum.inr l : Int ⊕ List am_Pt) := h'
      by_cases c : n ≤ q.1
      · rw [if_pos c] at h2
        injection h2 with h2
        rw [← h2]
        exact od
      · rw [if_neg c] at h2
        by_cases c2 : t q.1 = 47 ∧ done.length + 1 ≠ 5
        · rw [if_pos c2] at h2
          exact soR_ok f _ _ od l h2
        · rw [if_neg c2] at h2
          cases h2
section
variable {K : am_K} {h : am_H}
theorem XTF_go {L : am_Lb} {x P N : Nat} {S : am_G} {B : Int} {h2 : am_H} {ty : Nat} {fl : Int} {dz du : Nat} (t2 : Nt h2 L x P N S B) (ok : okLb h L) (hz : x ≤ am_sz h) (f : fx (fun q => q = x) h h2) (hr : ∀ f, am_fr h2 f x = am_fr h f x) (hi : ∀ f, f ≠ 4 → f ≠ 5 → am_fi h2 f x = am_fi h f x) (i4 : am_fi h2 4 x = 0) (i5 : am_fi h2 5 x = fl) (z : am_sz h2 + 1 ≤ am_sz h + dz) (u : am_us h2 + 6 ≤ am_us h + du) (H : XTF h L x P N S B K ty fl dz du) : K (.inr (am_sz h2 + 1)) (am_new h2 ty 6) := by
  have hz2 : x ≤ am_sz h2 := Nat.le_trans hz f.1
  refine H _ _ (Nt_fx0 fx0_new t2) ⟨fx_new (fx_sub f (fun q _ e => Or.inr (Or.inr e))), leL_refl, ⟨z, u⟩, fun q hq => Or.inl (ok.2.2 q hq), fun g => ?_, fun g g4 g5 => ?_⟩ (x_tyn0 rfl) ?_ ?_
  · rw [x_frn hz2]
    exact hr g
  · rw [x_fin hz2]
    exact hi g g4 g5
  · rw [x_fin hz2]
    exact i4
  · rw [x_fin hz2]
    exact i5
theorem X_story {L : am_Lb} {x P N : Nat} {S : am_G} {B : Int} {t : Int → Int} {n f du : Int} {D : Nat} (hD : 90 ≤ D) (tt : Nt h L x P N S B) (hx : am_ty h x = 1) (hN : am_fr h 1 x = N) (hC : okC S) (hz : x ≤ am_sz h) (hl : L x = (x, 0, 0, 0)) (hB : B ≤ 1000000) (hF : okF S) (hZ : okZ S) (hM : okM S) (hg : okg S) (tp : TpX h L x t n) (H0 : ¬ (0 ≤ f ∧ f ≤ 1) → XTF h L x P N S B K 33 (am_fi h 5 x) 8400 43000) (H2 : 0 ≤ f ∧ f ≤ 1 → ¬ (0 ≤ du ∧ du ≤ 600) → XTF h L x P N S B K 35 (am_fi h 5 x) 8400 43000) (H3 : 0 ≤ f ∧ f ≤ 1 → 0 ≤ du ∧ du ≤ 600 → ∀ p, soR t n 5 0 [] = .inl p → XTF h L x P N S B K 35 (p) 8400 43000) (H4 : 0 ≤ f ∧ f ≤ 1 → 0 ≤ du ∧ du ≤ 600 → ∀ l, soR t n 5 0 [] = .inr l → (S 0 0 1) = 20 → XTF h L x P N S B K 37 (-1) 8400 43000) (H1 : 0 ≤ f ∧ f ≤ 1 → 0 ≤ du ∧ du ≤ 600 → ∀ l, soR t n 5 0 [] = .inr l → (S 0 0 1) ≠ 20 → XAG h L x P N (fun S' => stR t S f du l S') B K (S 0 0 1) (-1) 8400 43000) : am_ev am_prog D 126 [.inr (.inl x), .inl f, .inl du] h K := by
  have ok := tt.1
  have hxN := tt.2.2.2.2.1
  have c1 := hC.2.1
  obtain ⟨u1, u2, u3', u4, u5, u6, u7, u8, u9⟩ := used_ok tt hx hz hl tp
  obtain ⟨p1, p2, p3, p4, p5⟩ := tp
  obtain ⟨d, rfl⟩ : ∃ d, D = d + 13 := ⟨D - 13, by omega⟩
  refine am_en p_X1_story rfl rfl ?_
  refine v_X1_story_0 ⟨hx, by omega, ⟨hz, p2.2.1, Or.inl p2.1, by omega⟩, ?_⟩
  have zN : N ≤ am_sz h := tt.2.2.2.1.1.1.2.1
  generalize hh1 : (am_sfi (am_wai (am_new h 102 (am_fi h 4 x).toNat) (am_sz h + 1) (am_cpy (am_ai h (am_fr h 3 x)) (fun _ => 0) 0 0 (am_fi h 4 x))) 4 x 0) = h1 at *
  rw [← u4]
  refine ⟨fun c => ⟨fun c2 => ?_, fun c2 => XTF_go u3' ok hz u1 u8 (fun g g4 _ => u7 g g4) u6 (u7 5 (by decide)) (by omega) (by omega) (H2 c c2)⟩, fun c => XTF_go u3' ok hz u1 u8 (fun g g4 _ => u7 g g4) u6 (u7 5 (by decide)) (by omega) (by omega) (H0 c)⟩
  have HH3 := H3 c c2
  have HH4 := H4 c c2
  have HH1 := H1 c c2
  have u2' : TxT h1 (am_sz h1) t n := by
    rw [u4]
    exact u2
  refine x_rinit (by omega) (Nat.le_refl _) (fun h2 rd z2 us2 => am_an (v_X1_story_17 ⟨rd.2.2.1, ?_⟩))
  refine x_storyR (by omega) u2' u3'.2.1 rd (by decide) ⟨by omega, u2'.2.2.2.1.1⟩ (fun p hp h3 E g1 g2 g3 g4 g5 g6 => ?_) (fun ps hp h3 r g1 pls l5 g5 g6 => am_av (v_X1_story_18 ?_))
  · -- a fault
    have xk := g1.2.2.2 x (by have := u1.1; omega)
    have xs := xk.2.2 (fun z => z)
    have tx : am_ty h3 x = 1 := xk.1.trans u9
    refine am_ah (j := 23) (by rw [g2]; rfl) (v_X1_story_23 ⟨⟨g2, tx⟩, ?_⟩)
    rw [g4]
    have f5 : fx (fun q => q = x) h (am_sfi h3 5 x p) := fx_sfi (fx_trans2 u1 g1 (fun q _ z => z.elim)) (Or.inr rfl)
    have t3 := Nt_fx0 g1 u3'
    have t5 : Nt (am_sfi h3 5 x p) L x P N S B := Nt_x t3 (fx_sfi fx_refl (Or.inr rfl) : fx (fun q => q = x) h3 (am_sfi h3 5 x p)) (fun q _ z => by rw [z, hl]; exact ⟨rfl, by show (0 : Nat) ≠ 1; decide⟩)
    have z5 : am_sz (am_sfi h3 5 x p) = am_sz h3 := rfl
    have us5 : am_us (am_sfi h3 5 x p) = am_us h3 := rfl
    exact XTF_go t5 ok hz f5 (fun g => (xs.2.1 g).trans (u8 g)) (fun g g4' g5' => (x_fif g5').trans ((xs.1 g).trans (u7 g g4'))) ((x_fif (by decide)).trans ((xs.1 4).trans u6)) x_fie (by omega) (by omega) (HH3 p hp)
  · -- parts
    have xk := g1.2.2.2 x (by have := u1.1; omega)
    have xs := xk.2.2 (fun z => z)
    have tx : am_ty h3 x = 1 := xk.1.trans u9
    have t3 := Nt_fx0 g1 u3'
    have nN : am_fr h3 1 x = N := (xs.2.1 1).trans ((u8 1).trans hN)
    have y1 := t3.2.2.2.1.1
    have f21 : am_fi h3 21 N = (S 0 0 1) := y1.2.2.2.1
    have f5 : fx (fun q => q = x) h (am_sfi h3 5 x (-1)) := fx_sfi (fx_trans2 u1 g1 (fun q _ z => z.elim)) (Or.inr rfl)
    have f35 : fx (fun q => q = x) h3 (am_sfi h3 5 x (-1)) := fx_sfi fx_refl (Or.inr rfl)
    have tB : Nt (am_sfi h3 5 x (-1)) L x P N S B := Nt_x t3 f35 (fun q _ z => by rw [z, hl]; exact ⟨rfl, by show (0 : Nat) ≠ 1; decide⟩)
    have zB : am_sz (am_sfi h3 5 x (-1)) = am_sz h3 := rfl
    have usB : am_us (am_sfi h3 5 x (-1)) = am_us h3 := rfl
    have hrB : ∀ g, am_fr (am_sfi h3 5 x (-1)) g x = am_fr h g x := fun g => (xs.2.1 g).trans (u8 g)
    have hiB : ∀ g, g ≠ 4 → g ≠ 5 → am_fi (am_sfi h3 5 x (-1)) g x = am_fi h g x := fun g g4' g5' => (x_fif g5').trans ((xs.1 g).trans (u7 g g4'))
    have i4B : am_fi (am_sfi h3 5 x (-1)) 4 x = 0 := (x_fif (by decide)).trans ((xs.1 4).trans u6)
    have i5B : am_fi (am_sfi h3 5 x (-1)) 5 x = -1 := x_fie
    have plB := (PLs_fy (K := K) f35 (fun q _ z => by rw [z]; exact Or.inl tx) pls).1
    rw [nN, f21]
    refine ⟨tx, y1.1.1, fun z => XTF_go tB ok hz f5 hrB hiB i4B i5B (by omega) (by omega) (HH4 ps hp (by omega)), fun z => ⟨by omega, ?_⟩⟩
    have oPs := soR_ok (t := t) (n := n) 5 0 [] (fun _ z => absurd z (by simp)) ps hp
    have HK := HH1 ps hp (by omega)
    have tyB : am_ty (am_sfi h3 5 x (-1)) x = 1 := tx
    have frB : am_fr (am_sfi h3 5 x (-1)) 1 x = N := nN
    generalize hhB : am_sfi h3 5 x (-1) = hB at *
    have yB := tB.2.2.2.1
    obtain ⟨n1, n2, n3, n4, n5, n6, n7⟩ := yB.1
    have zNB : N ≤ am_sz hB := n1.2.1
    obtain ⟨r1, r2, r3⟩ := yB.2.2.1
    have f21B : am_fi hB 21 N = (S 0 0 1) := n4
    have nx : N ≠ x := fun e => hxN e.symm
    have loop : ∀ i, 0 ≤ i → i ≤ (ps.length : Int) → ∀ (h' : am_H) (Li : am_Lb), fx (fun q => q = am_fr hB 20 N) hB h' → leL hB L Li → okLb h' Li → (∀ q, am_sz hB < q → (Li q).1 = 0 ∨ ((Li q).1 = N ∧ am_ty h' q = 9)) → am_sz h' = am_sz hB + i.toNat → am_us h' = am_us hB + 9 * i.toNat → (∀ p, ¬ (5 * (S 0 0 1) ≤ p ∧ p < 5 * (S 0 0 1) + i) → am_ar h' (am_fr hB 20 N) p = am_ar hB (am_fr hB 20 N) p) → (∀ j : Nat, (j : Int) < i → PcO h1 h' Li N (am_sz h1 + 3) t (am_ar h' (am_fr hB 20 N) (5 * (S 0 0 1) + j)) (5 * (S 0 0 1) + j) f du (gD ps j)) → PLs h1 h' r (am_sz h1 + 3) t ps → am_W m_X1_story (am_ev am_prog (d + 12)) K 49 [some (.inr (.inl (x))), some (.inl (f)), some (.inl (du)), some (.inr (.inl (am_sz h1))), some (.inr (.inl (r))), some (.inl (5 * (S 0 0 1))), some (.inl (i))] [] h' := by
      refine lp_z ?_ ?_
      · intro i i1 i2 hL h' Li fr le okl lab zz uu oth new pl
        have ei : ((i.toNat : Nat) : Int) = i := by omega
        have a0 : fx (fun _ => False) h' (am_new h' 9 9) := fx0_new
        have pn := PLs_fy (K := K) a0 (fun q _ z => z.elim) pl
        have pq := pn.1.2.2.2.2.2 i.toNat (by omega)
        rw [ei] at pq
        have oP := oPs _ (gD_mem ps i.toNat (by omega))
        have xB' := fr.2.2.2 x (by have := f5.1; omega)
        have NB' := fr.2.2.2 N zNB
        have nPA : ¬ (N = am_fr hB 20 N) := fun e => by
          have := r1.1
          rw [← e, n1.1] at this
          exact absurd this (by decide)
        have xPA : ¬ (x = am_fr hB 20 N) := fun e => by
          have := r1.1
          rw [← e, tyB] at this
          exact absurd this (by decide)
        have f1' : am_fr h' 1 x = N := ((xB'.2.2 xPA).2.1 1).trans frB
        have f20' : am_fr h' 20 N = am_fr hB 20 N := (NB'.2.2 nPA).2.1 20
        have f195 : am_fi h' 195 r = (ps.length : Int) := pl.2.2.1
        refine v_X1_story_49 ?_
        rw [f195, f1']
        refine ⟨pl.1.1.1, fun z => absurd z (by omega), fun _ => ⟨⟨xB'.1.trans tyB, NB'.1.trans n1.1, by omega⟩, pl.1.1.2.2.2.2.1, ⟨pn.1.1.1, by rw [pn.1.2.2.1]; omega⟩, ⟨?_, Or.inr ?_⟩, ?_⟩⟩
        · rw [pn.2.1, pn.2.2]
          have q0 := pl.2.2.2.2.2 i.toNat (by omega)
          rw [ei] at q0
          exact q0.2.1.2
        · rw [pn.2.1, pn.2.2]
          have q0 := pl.2.2.2.2.2 i.toNat (by omega)
          rw [ei] at q0
          exact q0.1
        · have rN := pn.1.2.2.2.2.2 i.toNat (by omega)
          rw [ei] at rN
          have l40 := oP.2.2.2
          refine x_pinit (m := (gD ps i.toNat).2.length) (g := fun k => (gP (gD ps i.toNat).2 k.toNat).2.2.2) (by omega) (x_tyn0 rfl) (Nat.le_refl _) rN.1 rN.2.1.2 rN.2.2.1 (by omega) (fun k k1 k2 => ?_) (fun h4 f4 z4 us4 e113 e114 e110 e111 e112 hr4 e115 => am_an (v_X1_story_71 ?_))
          · have ek : ((k.toNat : Nat) : Int) = k := by omega
            have pc := rN.2.2.2 k.toNat (by omega)
            rw [ek] at pc
            exact ⟨pc.1, pc.2.1.2, pc.2.2.1, (chP_g (gD ps i.toNat).2 0 (gD ps i.toNat).1 oP.2.1 k.toNat (by omega)).2.1⟩
          · have z4' : am_sz h4 = am_sz h' + 1 := z4
            have us4' : am_us h4 = am_us h' + 9 := us4
            have fr4 : fx (fun _ => False) h' h4 := fx_trans2 a0 f4 (fun q hq e => absurd hq (by omega))
            have PAz : am_fr hB 20 N ≤ am_sz h' := Nat.le_trans r1.2.1 fr.1
            have tyPA : am_ty h' (am_fr hB 20 N) = 111 := (fr.2.2.2 _ r1.2.1).1.trans r1.1
            have lnPA : am_ln h' (am_fr hB 20 N) = 100 := (fr.2.2.2 _ r1.2.1).2.1.trans r2
            have k4 := fr4.2.2.2 _ PAz
            have ty9 : am_ty h4 (am_sz h' + 1) = 9 := (f4.2.2.2 _ (Nat.le_refl _)).1.trans (x_tyn0 rfl)
            rw [f20']
            refine ⟨⟨k4.1.trans tyPA, Or.inr (by rw [ty9]; simp [am_tin]), by rw [k4.2.1, lnPA]; omega⟩, by omega, ?_⟩
            have fr5 : fx (fun q => q = am_fr hB 20 N) h4 (am_sar h4 (am_fr hB 20 N) (5 * (S 0 0 1) + i) (am_sz h' + 1)) := fx_sar fx_refl (Or.inr rfl)
            have ar5 : am_ar (am_sar h4 (am_fr hB 20 N) (5 * (S 0 0 1) + i) (am_sz h' + 1)) (am_fr hB 20 N) = am_uz (am_ar h4 (am_fr hB 20 N)) (5 * (S 0 0 1) + i) (am_sz h' + 1) := x_arse
            have ar4 : am_ar h4 (am_fr hB 20 N) = am_ar h' (am_fr hB 20 N) := (k4.2.2 (fun z => z)).2.2.2
            have z5 : am_sz (am_sar h4 (am_fr hB 20 N) (5 * (S 0 0 1) + i) (am_sz h' + 1)) = am_sz h4 := rfl
            have us5 : am_us (am_sar h4 (am_fr hB 20 N) (5 * (S 0 0 1) + i) (am_sz h' + 1)) = am_us h4 := rfl
            have fr45 : fx (fun q => q = am_fr hB 20 N) h' (am_sar h4 (am_fr hB 20 N) (5 * (S 0 0 1) + i) (am_sz h' + 1)) := fx_trans2 (fx_sub fr4 (fun q _ z => z.elim)) fr5 (fun q _ z => z)
            have le' : leL h' Li (lbA Li h' (am_sz h' + 1) (N, 3, 1, 5 * (S 0 0 1) + i)) := fun q hq => if_neg (fun y => absurd y.2 (by omega))
            have pl4 := (PLs_fy (K := K) f4 (fun q _ z => by rw [z]; exact Or.inr (Or.inr (Or.inl (x_tyn0 rfl)))) pn.1).1
            have ty4PA : am_ty h4 (am_fr hB 20 N) = 111 := k4.1.trans tyPA
            have pl5 := (PLs_fy (K := K) fr5 (fun q _ z => by rw [z]; exact Or.inr (Or.inr (Or.inr ty4PA))) pl4).1
            refine hL _ (lbA Li h' (am_sz h' + 1) (N, 3, 1, 5 * (S 0 0 1) + i)) (fx_trans fr fr45) (fun q hq => (le' q (Nat.le_trans hq fr.1)).trans (le q hq)) (okLb_lb okl fr45 ⟨by omega, by omega⟩ ?_) (fun q hq => ?_) (by omega) (by omega) (fun p hp => ?_) (fun j hj => ?_) pl5
            · show ¬ imT (am_ty h4 (am_sz h' + 1))
              rw [ty9]
              unfold imT
              omega
            · by_cases e : q = am_sz h' + 1
              · right
                have e2 : lbA Li h' (am_sz h' + 1) (N, 3, 1, 5 * (S 0 0 1) + i) q = (N, 3, 1, 5 * (S 0 0 1) + i) := if_pos ⟨e, by omega⟩
                rw [e2]
                refine ⟨rfl, ?_⟩
                show am_ty h4 q = 9
                rw [e]
                exact ty9
              · have e2 : lbA Li h' (am_sz h' + 1) (N, 3, 1, 5 * (S 0 0 1) + i) q = Li q := if_neg (fun y => e y.1)
                rw [e2]
                rcases lab q hq with w | w
                · exact Or.inl w
                · by_cases c : q ≤ am_sz h'
                  · exact Or.inr ⟨w.1, (fr45.2.2.2 q c).1.trans w.2⟩
                  · exact Or.inl (okl.2.2 q (by omega))
            · rw [ar5, am_uz_ne (by omega), ar4]
              exact oth p (by omega)
            · rw [ar5]
              by_cases e : (j : Int) = i
              · have ej : j = i.toNat := by omega
                rw [e, am_uz_eq, ej]
                have o4 : PcO h1 h4 (lbA Li h' (am_sz h' + 1) (N, 3, 1, 5 * (S 0 0 1) + i)) N (am_sz h1 + 3) t (am_sz h' + 1) (5 * (S 0 0 1) + i) f du (gD ps i.toNat) := by
                  refine ⟨⟨ty9, by omega, by omega, if_pos ⟨rfl, by omega⟩⟩, ⟨e110, e111, e112, ?_, ?_⟩, ⟨?_, ?_, ?_⟩, ?_⟩
                  · rw [e114, chP_sum _ 0 _ oP.2.1]
                    omega
                  · rw [e115]
                    exact x_fin0 rfl
                  · rw [hr4 116 (by decide)]
                    exact x_frn0 rfl
                  · rw [hr4 117 (by decide)]
                    exact x_frn0 rfl
                  · rw [hr4 118 (by decide)]
                    exact x_frn0 rfl
                  · rw [e113]
                    refine arC_fx f4 (fun q _ z => ?_) rN
                    have k9 : am_ty (am_new h' 9 9) q = 9 := by
                      rw [z]
                      exact x_tyn0 rfl
                    rw [k9]
                    exact ⟨by decide, by decide, by decide, fun y => absurd y (by decide)⟩
                exact PcO_fx fr5 leL_refl (fun q _ z => by rw [z]; exact Or.inr ty4PA) o4
              · rw [am_uz_ne (by omega), ar4]
                exact PcO_fx fr45 le' (fun q _ z => by rw [z]; exact Or.inr tyPA) (new j (by omega))
      · intro h' Li fr le okl lab zz uu oth new pl
        have xB' := fr.2.2.2 x (by have := f5.1; omega)
        have NB' := fr.2.2.2 N zNB
        have nPA : ¬ (N = am_fr hB 20 N) := fun e => by
          have := r1.1
          rw [← e, n1.1] at this
          exact absurd this (by decide)
        have xPA : ¬ (x = am_fr hB 20 N) := fun e => by
          have := r1.1
          rw [← e, tyB] at this
          exact absurd this (by decide)
        have f1' : am_fr h' 1 x = N := ((xB'.2.2 xPA).2.1 1).trans frB
        have f21' : am_fi h' 21 N = (S 0 0 1) := ((NB'.2.2 nPA).1 21).trans f21B
        have f195 : am_fi h' 195 r = (ps.length : Int) := pl.2.2.1
        have tyPA : am_ty h' (am_fr hB 20 N) = 111 := (fr.2.2.2 _ r1.2.1).1.trans r1.1
        have tyN : am_ty h' N = 3 := NB'.1.trans n1.1
        have f6 : fx (fun q => q = N) h' (am_sfi h' 21 N ((S 0 0 1) + 1)) := fx_sfi fx_refl (Or.inr rfl)
        have f36 : fx (fun q => q = am_fr hB 20 N ∨ q = N) hB (am_sfi h' 21 N ((S 0 0 1) + 1)) := fx_sfi (fx_sub fr (fun q _ z => Or.inl z)) (Or.inr (Or.inr rfl))
        have tn : ((ps.length : Int)).toNat = ps.length := by omega
        rw [tn] at zz uu
        refine v_X1_story_49 ?_
        rw [f195, f1', f21']
        refine ⟨pl.1.1.1, fun _ => ⟨⟨xB'.1.trans tyB, tyN, by omega⟩, by omega, ?_⟩, fun z => absurd z (by omega)⟩
        have es : (S 0 0 1) + 1 - 1 = (S 0 0 1) := by omega
        rw [es]
        have hL3 : ∀ q, am_sz h1 < q → (am_ty (am_sfi h' 21 N ((S 0 0 1) + 1)) q = 102 ∨ am_ty (am_sfi h' 21 N ((S 0 0 1) + 1)) q = 122) → (Li q).1 = 0 := fun q hq ty => by
          have ty' : am_ty h' q = 102 ∨ am_ty h' q = 122 := ty
          by_cases c : q ≤ am_sz hB
          · rw [le q c]
            exact ok.2.2 q (by have := u1.1; omega)
          · rcases lab q (by omega) with w | w
            · exact w
            · omega
        have fin := fun S' st => Nt_story (h3 := am_sfi h' 21 N ((S 0 0 1) + 1)) (L3 := Li) (A := am_sz h1 + 3) (h0 := h1) (l := ps) (t := t) (f := f) (du := du) (S' := S') tB hC hF hZ hM hg (by omega) l5 st f36 le (okLb_fx f6 okl) (fun g => (NB'.2.2 nPA).2.1 g) x_fie (fun g hg' => (x_fif hg').trans ((NB'.2.2 nPA).1 g)) (fun p hp' => oth p hp') (fun j hj => PcO_fx f6 leL_refl (fun q _ z => by rw [z]; exact Or.inl tyN) (new j (by omega))) hL3
        have xN := (f6.2.2.2 x (Nat.le_trans (Nat.le_trans hz f5.1) fr.1)).2.2 (fun e => nx e.symm)
        refine HK _ Li fin ⟨?_, ?_, ⟨by show am_sz h' ≤ _; omega, by show am_us h' ≤ _; omega⟩, fun q hq => ?_, fun g => ?_, fun g g4' g5' => ?_⟩ ?_ ?_
        · refine fx_trans2 (fx_sub f5 (fun q _ e => Or.inr (Or.inr e))) f36 (fun q hq e => Or.inl ?_)
          rcases e with e | e
          · rw [e, r1.2.2.2]
          · rw [e, n1.2.2.2]
        · exact fun q hq => le q (Nat.le_trans hq f5.1)
        · by_cases c : q ≤ am_sz hB
          · rw [le q c]
            exact Or.inl (ok.2.2 q hq)
          · rcases lab q (by omega) with w | w
            · exact Or.inl w
            · exact Or.inr (Or.inl w.1)
        · exact ((xB'.2.2 xPA).2.1 g).trans (hrB g)
        · exact (xN.1 g).trans (((xB'.2.2 xPA).1 g).trans (hiB g g4' g5'))
        · exact (xN.1 4).trans (((xB'.2.2 xPA).1 4).trans i4B)
        · exact (xN.1 5).trans (((xB'.2.2 xPA).1 5).trans i5B)
    exact loop 0 (by omega) (by omega) hB L fx_refl leL_refl tB.1 (fun q hq => Or.inl (tB.1.2.2 q hq)) rfl rfl (fun _ _ => rfl) (fun j hj => absurd hj (by omega)) plB
end
