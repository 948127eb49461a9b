set_option maxRecDepth 100000
/-! the model reads an atom -/
section
variable {b : am_H} {r : Nat} {t : Int → Int} {n : Int}
theorem rd_at {N P : Int → am_Rs} {k : Int} {D0 : Nat} (hn : n ≤ 400) (cs : CsC b r) (hk : 0 ≤ k ∧ k ≤ 5) (hD0 : 16 ≤ D0) (hh : (k = 5 ∧ N = .inl ∧ P = .inl) ∨ (k ≠ 5 ∧ ∃ fA fN s g s' g', (∀ a q, a ≤ n → fA a = .inr q → okAt t n s g a q) ∧ (∀ a q, a ≤ n → fN a = .inr q → okAt t n s' g' a q) ∧ RdM b r t n 403 fA D0 (k + 1) ∧ RdM b r t n 361 fN D0 (k + 1) ∧ N = (fun b => ngM (fA (b + 3))) ∧ P = (fun b => pnM t n (fN (b + 1))))) : RdM b r t n 403 (fun a => atB t n N P (bE t n a)) (D0 + 1) k := by
  intro K S V W a D hD h45 h46 ha h48 tp h58 H0 H1
  dsimp only at H0 H1
  have cs0 := cs
  obtain ⟨c0, cs1⟩ := cs
  obtain ⟨d, rfl⟩ : ∃ d, D = d + 4 := ⟨D - 4, by omega⟩
  refine am_en p_X5_readAtom rfl rfl ?_
  have bv := bE_v (t := t) (n := n) (a := a)
  have be := bv.1.2 ha.2
  -- no 'not', no bracket
  have tl : ∀ (W2 : Nat → Int) (v : Int), ¬ wAt t n (bE t n a) = wNot → ¬ ((bE t n a) < n ∧ t (bE t n a) = 40) → fa [46] W W2 → W2 46 = (bE t n a) → am_ev am_prog (d + 3) 421 [.inr (.inl r)] (mo b r (ms S) V W2) (am_aft (am_hand m_X5_readAtom K (am_W m_X5_readAtom (am_ev am_prog (d + 3)) K) 103) (am_W m_X5_readAtom (am_ev am_prog (d + 3)) K) 103 [some (.inr (.inl r)), some (.inl ((bE t n a))), some (.inl (0)), some (.inl (v)), none, none, none] []) := by
    intro W2 v nn nb hW2 e46
    have e45 : W2 45 = n := (hW2 45 rfl).trans h45
    have e58 : W2 58 = W 58 := hW2 58 rfl
    have fW2 : fa [46, 47, 48, 49, 58] W W2 := fa_sub hW2 rfl
    have eb : bE t n (W2 46) = (bE t n a) := by rw [e46, bE_b]
    refine c_tagHere (t := t) (n := n) (by omega) e45 hn (by omega) tp cs0 (fun W3 nt hW3 f46 => am_av (w_readAtom_104 ⟨fun _ => ?_, fun z => absurd rfl z⟩)) (fun W3 yt hW3 f46 => am_av (w_readAtom_104 ⟨fun z => absurd z ?_, fun _ => ?_⟩))
    · rw [eb] at nt f46
      have g45 : W3 45 = n := (hW3 45 rfl).trans e45
      have eb3 : bE t n (W3 46) = (bE t n a) := by rw [f46, bE_b]
      have fW3 : fa [46, 47, 48, 49, 58] W W3 := fa_trans fW2 (fa_sub hW3 rfl)
      refine c_factHere (t := t) (n := n) (by omega) g45 hn (by omega) tp cs0 (fun W4 nf hW4 k46 => am_av (w_readAtom_118 ⟨fun z => absurd rfl z, fun _ => c_fails (by omega) (am_av (w_readAtom_124 ⟨Or.inl rfl, ?_⟩))⟩)) (fun W4 yf hW4 k46 => am_av (w_readAtom_118 ⟨fun _ => ?_, fun z => absurd z ?_⟩))
      · rw [eb3] at nf k46
        refine H0 (bE t n a) V _ ?_ fa_refl (fa_up (fa_trans fW3 (fa_sub hW4 rfl)) rfl) (by rw [am_up_eq, k46])
        unfold atB
        rw [if_neg nn, if_neg nb, if_neg (fun z => z nt), if_neg (fun z => z nf)]
      · rw [eb3] at yf k46
        rw [eb3]
        have l45 : W4 45 = n := (hW4 45 rfl).trans g45
        have fW4 : fa [46, 47, 48, 49, 58] W W4 := fa_trans fW3 (fa_sub hW4 rfl)
        have fl := facW_l yf
        have we := wAt_e (rfl : wAt t n (bE t n a) = wAt t n (bE t n a)) be
        have er : atB t n N P (bE t n a) = cmR t n (facW (wAt t n (bE t n a))) ((bE t n a) + (wAt t n (bE t n a)).length) := by
          unfold atB
          rw [if_neg nn, if_neg nb, if_neg (fun z => z nt), if_pos yf]
        rw [← k46] at er we
        have b2v := bE_v (t := t) (n := n) (a := W4 46)
        have b2e := b2v.1.2 we
        have w4a : (bE t n a) + 3 ≤ W4 46 := by omega
        refine c_blanks (t := t) (n := n) (by omega) l45 hn (by omega) tp (fun W5 hW5 m46 => am_an (w_readAtom_127 ?_))
        have m45 : W5 45 = n := (hW5 45 rfl).trans l45
        have fW5 : fa [46, 47, 48, 49, 58] W W5 := fa_trans fW4 (fa_sub hW5 rfl)
        have m58 : W5 58 = W 58 := (hW5 58 rfl).trans ((hW4 58 rfl).trans ((hW3 58 rfl).trans e58))
        have m47 : W5 47 = W 47 := (hW5 47 rfl).trans ((hW4 47 rfl).trans ((hW3 47 rfl).trans (hW2 47 rfl)))
        have m48 : W5 48 = k := (hW5 48 rfl).trans ((hW4 48 rfl).trans ((hW3 48 rfl).trans ((hW2 48 rfl).trans h48)))
        have bad : ¬ (bE t n (W4 46) < n ∧ (t (bE t n (W4 46)) = 60 ∨ t (bE t n (W4 46)) = 62)) → am_ev am_prog (d + 3) 258 [.inr (.inl r)] (mo b r (ms S) V W5) (am_aft (am_hand m_X5_readAtom K (am_W m_X5_readAtom (am_ev am_prog (d + 3)) K) 147) (am_W m_X5_readAtom (am_ev am_prog (d + 3)) K) 147 [some (.inr (.inl r)), some (.inl ((bE t n a))), some (.inl (0)), some (.inl (v)), some (.inl (-1)), some (.inl (facW (wAt t n (bE t n a)))), none] []) := fun z => by
          refine c_fails (by omega) (am_av (w_readAtom_148 ⟨Or.inl rfl, H0 (bE t n (W4 46)) V _ ?_ fa_refl (fa_up fW5 rfl) (by rw [am_up_eq, m46])⟩))
          rw [er]
          exact if_neg z
        have num : ∀ op, bE t n (W4 46) < n → (t (bE t n (W4 46)) = 60 ∨ t (bE t n (W4 46)) = 62) → op = (if t (bE t n (W4 46)) = 60 then 2 else 3) → am_ev am_prog (d + 3) 325 [.inr (.inl r), .inl 0, .inl 9999] (mo b r (ms S) V (am_up W5 46 (W5 46 + 1))) (am_aft (am_hand m_X5_readAtom K (am_W m_X5_readAtom (am_ev am_prog (d + 3)) K) 169) (am_W m_X5_readAtom (am_ev am_prog (d + 3)) K) 169 [some (.inr (.inl r)), some (.inl ((bE t n a))), some (.inl (0)), some (.inl (v)), some (.inl (-1)), some (.inl (facW (wAt t n (bE t n a)))), some (.inl (op))] []) := by
          intro op z zz hop
          have p46 : (am_up W5 46 (W5 46 + 1)) 46 = bE t n (W4 46) + 1 := am_up_eq.trans (by rw [m46])
          have fW6 : fa [46, 47, 48, 49, 58] W (am_up W5 46 (W5 46 + 1)) := fa_up fW5 rfl
          refine c_readNumber (t := t) (n := n) (by omega) ((am_up_ne (by decide)).trans m45) hn (by rw [p46]; omega) tp (fun x W7 hx hW7 q47 => am_av (w_readAtom_170 ⟨fun y => absurd rfl y, fun _ => ?_⟩)) (fun q W7 hq hW7 q46 q49 => am_av (w_readAtom_170 ⟨fun _ => ?_, fun y => absurd y (by decide)⟩))
          · rw [p46] at hx
            refine H0 x V W7 ?_ fa_refl (fa_trans fW6 (fa_sub hW7 rfl)) q47
            rw [er]
            unfold cmR
            rw [if_pos ⟨z, zz⟩, hx]
          · rw [p46] at hq
            have nk := nmR_ok hq (by omega)
            have fW7 : fa [46, 47, 48, 49, 58] W W7 := fa_trans fW6 (fa_sub hW7 rfl)
            have q58 : W7 58 = W 58 := (hW7 58 rfl).trans ((am_up_ne (by decide)).trans m58)
            have ef : atB t n N P (bE t n a) = .inr (q.1, .cmp op (facW (wAt t n (bE t n a))) q.2) := by
              rw [er, hop]
              unfold cmR
              rw [if_pos ⟨z, zz⟩, hq]
            refine c_act (by omega) (by omega) (am_an (w_readAtom_176 (c_act (by omega) ?_ (am_an (w_readAtom_179 (c_act (by omega) ?_ (am_an (w_readAtom_183 ?_))))))))
            · rw [am_up_eq]
              omega
            · rw [am_up_eq, am_up_eq]
              omega
            · have s0 : cdA (V 10) (W7 58) [] := fun i hi => absurd hi (Nat.not_lt_zero _)
              have s1 := cdA_s (v := op) s0
              have s2 := cdA_s (v := facW (wAt t n (bE t n a))) s1
              have s3 := cdA_s (v := q.2) s2
              have z0 : W7 58 + (([] : List Int).length : Int) = W7 58 := by
                show W7 58 + 0 = W7 58
                omega
              have z1 : W7 58 + (([] ++ [op] : List Int).length : Int) = W7 58 + 1 := rfl
              have z2 : W7 58 + (([] ++ [op] ++ [facW (wAt t n (bE t n a))] : List Int).length : Int) = W7 58 + 1 + 1 := by
                show W7 58 + 2 = W7 58 + 1 + 1
                omega
              rw [z0, z1, z2] at s3
              have v1 : ∀ (A : Nat → Int → Int) (x : Int → Int), am_up A 10 x 10 = x := fun A x => am_up_eq
              have k49 : (am_up (am_up W7 58 (W7 58 + 1)) 58 ((am_up W7 58 (W7 58 + 1)) 58 + 1)) 49 = q.2 := (am_up_ne (by decide)).trans ((am_up_ne (by decide)).trans q49)
              have k58 : (am_up W7 58 (W7 58 + 1)) 58 = W7 58 + 1 := am_up_eq
              have k582 : (am_up (am_up W7 58 (W7 58 + 1)) 58 ((am_up W7 58 (W7 58 + 1)) 58 + 1)) 58 = W7 58 + 1 + 1 := am_up_eq.trans (by rw [k58])
              refine H1 (q.1, .cmp op (facW (wAt t n (bE t n a))) q.2) _ _ ef (fa_up (fa_up (fa_up fa_refl rfl) rfl) rfl) (fa_up (fa_up (fa_up fW7 rfl) rfl) rfl) ?_ ?_ ?_ ?_ ?_ (fun i hi => ?_)
              · rw [am_up_ne (by decide), am_up_ne (by decide), am_up_ne (by decide)]
                exact q46
              · rw [am_up_ne (by decide), am_up_ne (by decide), am_up_ne (by decide), hW7 47 rfl, am_up_ne (by decide)]
                exact m47
              · rw [am_up_ne (by decide), am_up_ne (by decide), am_up_ne (by decide), hW7 48 rfl, am_up_ne (by decide)]
                exact m48
              · rw [am_up_eq, k582, q58]
                show W 58 + 1 + 1 + 1 = W 58 + 3
                omega
              · rw [v1, v1, v1, k49, k582, k58, ← q58]
                exact s3
              · rw [v1, v1, v1, k582, k58, am_uz_ne (by omega), am_uz_ne (by omega), am_uz_ne (by omega)]
        rw [m45, m46]
        refine ⟨fun z => bad (fun y => absurd y.1 (by omega)), fun z => ⟨by omega, fun z2 => ⟨by omega, fun z3 => absurd z2 z3, fun _ => ⟨by omega, ?_⟩⟩, fun z2 => ⟨by omega, fun z3 => ⟨by omega, fun z4 => ⟨by omega, ?_⟩, fun z4 => absurd z4 z2⟩, fun z3 => bad (fun y => ?_)⟩⟩⟩
        · have z2' := (tp_c tp (by omega) z (by omega)).1 z2
          have q := num 2 z (Or.inl z2') (if_pos z2').symm
          rw [m46] at q
          exact q
        · have z2' : ¬ t (bE t n (W4 46)) = 60 := fun y => z2 ((tp_c tp (by omega) z (by omega)).2 y)
          have z3' := (tp_c tp (by omega) z (by omega)).1 z3
          have q := num 3 z (Or.inr z3') (if_neg z2').symm
          rw [m46] at q
          exact q
        · rcases y.2 with w | w
          · exact z2 ((tp_c tp (by omega) z (by omega)).2 w)
          · exact z3 ((tp_c tp (by omega) z (by omega)).2 w)
      · rw [eb3] at yf ⊢
        exact yf
    · rw [eb] at yt ⊢
      exact yt
    · rw [eb] at yt f46
      rw [eb]
      have ttl := tagW_l yt
      have we := wAt_e (rfl : wAt t n (bE t n a) = wAt t n (bE t n a)) be
      have fW3 : fa [46, 47, 48, 49, 58] W W3 := fa_trans fW2 (fa_sub hW3 rfl)
      have q58 : W3 58 = W 58 := (hW3 58 rfl).trans e58
      have ef : atB t n N P (bE t n a) = .inr ((bE t n a) + (wAt t n (bE t n a)).length, .tag (tagW (wAt t n (bE t n a)))) := by
        unfold atB
        rw [if_neg nn, if_neg nb, if_pos yt]
      refine c_act (by omega) (by omega) (am_an (w_readAtom_111 (c_act (by omega) ?_ (am_an (w_readAtom_114 ?_)))))
      · rw [am_up_eq]
        omega
      · have s0 : cdA (V 10) (W3 58) [] := fun i hi => absurd hi (Nat.not_lt_zero _)
        have s2 := cdA_s (v := tagW (wAt t n (bE t n a))) (cdA_s (v := 1) s0)
        have z0 : W3 58 + (([] : List Int).length : Int) = W3 58 := by
          show W3 58 + 0 = W3 58
          omega
        have z1 : W3 58 + (([] ++ [(1 : Int)] : List Int).length : Int) = W3 58 + 1 := rfl
        rw [z0, z1] at s2
        have v1 : ∀ (A : Nat → Int → Int) (x : Int → Int), am_up A 10 x 10 = x := fun A x => am_up_eq
        have k58 : (am_up W3 58 (W3 58 + 1)) 58 = W3 58 + 1 := am_up_eq
        refine H1 ((bE t n a) + (wAt t n (bE t n a)).length, .tag (tagW (wAt t n (bE t n a)))) _ _ ef (fa_up (fa_up fa_refl rfl) rfl) (fa_up (fa_up fW3 rfl) rfl) ?_ ?_ ?_ ?_ ?_ (fun i hi => ?_)
        · rw [am_up_ne (by decide), am_up_ne (by decide)]
          exact f46
        · rw [am_up_ne (by decide), am_up_ne (by decide), hW3 47 rfl]
          exact hW2 47 rfl
        · rw [am_up_ne (by decide), am_up_ne (by decide), hW3 48 rfl, hW2 48 rfl]
          exact h48
        · rw [am_up_eq, k58, q58]
          show W 58 + 1 + 1 = W 58 + 2
          omega
        · rw [v1, v1, k58, ← q58]
          exact s2
        · rw [v1, v1, k58, am_uz_ne (by omega), am_uz_ne (by omega)]
  refine w_readAtom_0 (c_blanks (t := t) (n := n) (by omega) h45 hn (by omega) tp (fun W1 hW1 f46 => am_an (w_readAtom_2 ?_)))
  rw [h46] at f46
  have f45 : W1 45 = n := (hW1 45 rfl).trans h45
  have eb1 : bE t n (W1 46) = (bE t n a) := by rw [f46, bE_b]
  rw [f46]
  refine c_takes (t := t) (n := n) (by omega) f45 hn (by omega) tp c0 (by decide) (fun W2 nn hW2 g46 => am_av (w_readAtom_8 ⟨fun z => absurd rfl z, fun _ => ?_⟩)) (fun W2 yn hW2 g46 => am_av (w_readAtom_8 ⟨fun _ => ?_, fun z => absurd z (by decide)⟩))
  · rw [eb1] at nn g46
    have hW12 := fa_trans hW1 hW2
    have g45 : W2 45 = n := (hW2 45 rfl).trans f45
    have g48 : W2 48 = k := (hW12 48 rfl).trans h48
    rw [g45, g46, g48]
    refine ⟨fun z => ⟨fun y => absurd rfl y, fun _ => tl W2 0 nn (fun y => absurd y.1 (by omega)) hW12 g46⟩, fun z => ⟨by omega, fun y => absurd rfl y, fun _ => ⟨fun y => tl W2 _ nn (fun w => y ((tp_c tp (by omega) z (by omega)).2 w.2)) hW12 g46, fun y => ⟨fun k5 => ⟨by omega, fun w => absurd y w, fun _ => ⟨by omega, fun _ => ?_, fun w => absurd rfl w⟩⟩, fun k5 => ?_⟩⟩⟩⟩
    · -- a bracket
      have y' := (tp_c tp (by omega) z (by omega)).1 y
      obtain ⟨_, fA, fN, s, g, s', g', hA, hN, rA, rN, eN, eP⟩ := hh.resolve_left (fun w => k5 w.1)
      have w46 : (am_up (am_up W2 48 (k + 1)) 46 ((bE t n a) + 1)) 46 = (bE t n a) + 1 := am_up_eq
      have eA : atB t n N P (bE t n a) = pnM t n (fN ((bE t n a) + 1)) := by
        unfold atB
        rw [if_neg nn, if_pos ⟨z, y'⟩, eP]
      have fW3 : fa [46, 47, 48, 49, 58] W (am_up (am_up W2 48 (k + 1)) 46 ((bE t n a) + 1)) := fa_up (fa_up (fa_sub hW12 rfl) rfl) rfl
      refine rN _ S V (am_up (am_up W2 48 (k + 1)) 46 ((bE t n a) + 1)) ((bE t n a) + 1) _ (by omega) ?_ w46 (by omega) ?_ tp ?_ (fun x V3 W3 hx hV3 hW3 g47 => am_av (w_readAtom_62 ⟨fun w => absurd rfl w, fun _ => H0 x V3 W3 ?_ hV3 (fa_trans fW3 hW3) g47⟩)) (fun q V3 W3 hq hV3 hW3 q46 q47 q48 q58 cd3 old3 => am_av (w_readAtom_62 ⟨fun _ => ⟨fun _ => ?_, fun w => absurd rfl w⟩, fun w => absurd w (by decide)⟩))
      · rw [am_up_ne (by decide), am_up_ne (by decide)]
        exact g45
      · rw [am_up_ne (by decide), am_up_eq]
      · rw [am_up_ne (by decide), am_up_ne (by decide), hW12 58 rfl]
        omega
      · rw [eA, hx]
        rfl
      · have oq := hN _ q (by omega) hq
        have pv := bE_v (t := t) (n := n) (a := q.1)
        have pe := pv.1.2 oq.1.2
        have r45 : W3 45 = n := by
          rw [hW3 45 rfl, am_up_ne (by decide), am_up_ne (by decide), g45]
        have r58 : W3 58 = W 58 + q.2.cd.length := by
          rw [q58, am_up_ne (by decide), am_up_ne (by decide), hW12 58 rfl]
        have r47 : W3 47 = W 47 := by
          rw [q47, am_up_ne (by decide), am_up_ne (by decide), hW12 47 rfl]
        have cdo : (am_up (am_up W2 48 (k + 1)) 46 ((bE t n a) + 1)) 58 = W 58 := by
          rw [am_up_ne (by decide), am_up_ne (by decide), hW12 58 rfl]
        rw [cdo] at cd3 old3
        have e4 : V3 4 = V 4 := hV3 4 rfl
        have oq1 := oq.1.1
        refine c_blanks (t := t) (n := n) (by omega) r45 hn (by omega) (by rw [e4]; exact tp) (fun W4 hW4 s46 => am_an (w_readAtom_73 ?_))
        rw [q46] at s46
        have s45 : W4 45 = n := (hW4 45 rfl).trans r45
        have fW4 : fa [46, 47, 48, 49, 58] W W4 := fa_trans fW3 (fa_trans hW3 (fa_sub hW4 rfl))
        have bad : ¬ (bE t n q.1 < n ∧ t (bE t n q.1) = 41) → am_ev am_prog (d + 3) 258 [.inr (.inl r)] (mo b r (ms S) V3 W4) (am_aft (am_hand m_X5_readAtom K (am_W m_X5_readAtom (am_ev am_prog (d + 3)) K) 86) (am_W m_X5_readAtom (am_ev am_prog (d + 3)) K) 86 [some (.inr (.inl r)), some (.inl ((bE t n a))), some (.inl (0)), some (.inl (am_b (V 4 (bE t n a) = 40))), none, none, none] []) := fun w => by
          refine c_fails (by omega) (am_av (w_readAtom_87 ⟨Or.inl rfl, H0 (bE t n q.1) V3 _ ?_ hV3 (fa_up fW4 rfl) (by rw [am_up_eq, s46])⟩))
          rw [eA, hq]
          exact if_neg w
        rw [s45, s46, e4]
        refine ⟨fun w => bad (fun u => absurd u.1 (by omega)), fun w => ⟨by omega, fun w2 => ⟨by omega, ?_⟩, fun w2 => bad (fun u => w2 ((tp_c tp (by omega) w (by omega)).2 u.2))⟩⟩
        have w2' := (tp_c tp (by omega) w (by omega)).1 w2
        have s48 : W4 48 = k + 1 := (hW4 48 rfl).trans q48
        rw [s48]
        refine ⟨by omega, H1 (bE t n q.1 + 1, q.2) V3 _ ?_ hV3 (fa_up (fa_up fW4 rfl) rfl) ?_ ?_ ?_ ?_ cd3 old3⟩
        · rw [eA, hq]
          exact if_pos ⟨w, w2'⟩
        · rw [am_up_ne (by decide), am_up_eq]
        · rw [am_up_ne (by decide), am_up_ne (by decide), hW4 47 rfl, r47]
        · rw [am_up_eq]
          omega
        · rw [am_up_ne (by decide), am_up_ne (by decide), hW4 58 rfl, r58]
    · -- too deep
      have y' := (tp_c tp (by omega) z (by omega)).1 y
      have h5 := hh.resolve_right (fun w => w.1 k5)
      refine H0 (bE t n a) V _ ?_ fa_refl (fa_up (fa_sub hW12 rfl) rfl) am_up_eq
      unfold atB
      rw [if_neg nn, if_pos ⟨z, y'⟩, h5.2.2]
  · -- not
    rw [eb1] at yn g46
    have g46' : W2 46 = (bE t n a) + 3 := g46
    have hW12 := fa_trans hW1 hW2
    have g45 : W2 45 = n := (hW2 45 rfl).trans f45
    have g48 : W2 48 = k := (hW12 48 rfl).trans h48
    have we := wAt_e yn be
    have we' : (bE t n a) + 3 ≤ n := we
    rw [g48]
    refine ⟨fun _ => ⟨fun k5 => ⟨by omega, fun w => absurd w (by decide), fun _ => ?_⟩, fun k5 => ?_⟩, fun w => absurd w (by decide)⟩
    · obtain ⟨_, fA, fN, s, g, s', g', hA, hN, rA, rN, eN, eP⟩ := hh.resolve_left (fun w => k5 w.1)
      have eA : atB t n N P (bE t n a) = ngM (fA ((bE t n a) + 3)) := by
        unfold atB
        rw [if_pos yn, eN]
      have fW3 : fa [46, 47, 48, 49, 58] W (am_up W2 48 (k + 1)) := fa_up (fa_sub hW12 rfl) rfl
      have cdo : (am_up W2 48 (k + 1)) 58 = W 58 := (am_up_ne (by decide)).trans (hW12 58 rfl)
      refine rA _ S V (am_up W2 48 (k + 1)) ((bE t n a) + 3) _ (by omega) ((am_up_ne (by decide)).trans g45) ((am_up_ne (by decide)).trans g46') (by omega) am_up_eq tp (by rw [cdo]; omega) (fun x V3 W3 hx hV3 hW3 q47 => am_av (w_readAtom_58 ⟨fun w => absurd rfl w, fun _ => H0 x V3 W3 ?_ hV3 (fa_trans fW3 hW3) q47⟩)) (fun q V3 W3 hq hV3 hW3 q46 q47 q48 q58 cd3 old3 => am_av (w_readAtom_58 ⟨fun _ => ⟨fun w => absurd w (by decide), fun _ => ?_⟩, fun w => absurd w (by decide)⟩))
      · rw [eA, hx]
        rfl
      · have oq := hA _ q we' hq
        have ol : (q.2.cd.length : Int) ≤ q.1 - ((bE t n a) + 3) := oq.2.2.2.2.2.1
        have oe := oq.1.2
        rw [cdo] at cd3 old3 q58
        refine c_act (by omega) (by omega) (am_an (w_readAtom_70 ?_))
        have s48 : (am_up W3 58 (W3 58 + 1)) 48 = k + 1 := (am_up_ne (by decide)).trans q48
        rw [s48]
        have lc : (am_Cd.ng q.2).cd.length = q.2.cd.length + 1 := by
          show (q.2.cd ++ [4]).length = _
          rw [List.length_append]
          rfl
        have v10 : am_up V3 10 (am_uz (V3 10) (W3 58) 4) 10 = am_uz (V3 10) (W3 58) 4 := am_up_eq
        refine ⟨by omega, H1 (q.1, .ng q.2) _ _ ?_ (fa_up hV3 rfl) (fa_up (fa_up (fa_trans fW3 hW3) rfl) rfl) ?_ ?_ ?_ ?_ ?_ (fun i hi => ?_)⟩
        · rw [eA, hq]
          rfl
        · rw [am_up_ne (by decide), am_up_ne (by decide)]
          exact q46
        · rw [am_up_ne (by decide), am_up_ne (by decide), q47, am_up_ne (by decide), hW12 47 rfl]
        · rw [am_up_eq]
          omega
        · rw [am_up_ne (by decide), am_up_eq, q58]
          show W 58 + (q.2.cd.length : Int) + 1 = W 58 + ((am_Cd.ng q.2).cd.length : Int)
          rw [lc]
          omega
        · rw [v10, q58]
          exact cdA_s (v := 4) cd3
        · rw [v10, am_uz_ne (by omega)]
          exact old3 i hi
    · have h5 := hh.resolve_right (fun w => w.1 k5)
      refine H0 (bE t n a) V _ ?_ fa_refl (fa_up (fa_sub hW12 rfl) rfl) am_up_eq
      unfold atB
      rw [if_pos yn, h5.2.1]
/-- atoms at all levels -/
theorem rd_atom (hn : n ≤ 400) (cs : CsC b r) : ∀ k : Nat, k ≤ 5 → RdM b r t n 403 (atR t n k) (17 + 4 * k) (5 - (k : Int))
  | 0, _ => rd_at hn cs (by omega) (Nat.le_refl 16) (Or.inl ⟨rfl, rfl, rfl⟩)
  | k + 1, hk => by
    have i := rd_atom hn cs k (by omega)
    have oA : ∀ a q, a ≤ n → atR t n k a = .inr q → okAt t n (3 + 4 * (k : Int)) (1 + 2 * k) a q := fun a q ha h => atR_ok k a q ha h
    have j := rd_any hn cs (by omega) (alR_ok oA) (rd_all hn cs (by omega) oA i)
    have e : 5 - ((k + 1 : Nat) : Int) + 1 = 5 - (k : Int) := by omega
    have up : ∀ {y f D0 D1 m}, RdM b r t n y f D0 m → D0 ≤ D1 → RdM b r t n y f D1 m := fun h le K S V W a D hD => h K S V W a D (Nat.le_trans le hD)
    have q : RdM b r t n 403 (atR t n (k + 1)) (20 + 4 * k + 1) (5 - ((k + 1 : Nat) : Int)) := by
      refine rd_at (k := 5 - ((k + 1 : Nat) : Int)) (N := fun b => ngM (atR t n k (b + 3))) (P := fun b => pnM t n (anR t n (atR t n k) (b + 1))) (D0 := 20 + 4 * k) hn cs (by omega) (by omega) (Or.inr ⟨by omega, atR t n k, anR t n (atR t n k), _, _, _, _, oA, anR_ok oA, ?_, ?_, rfl, rfl⟩)
      · rw [e]
        exact up i (by omega)
      · rw [e, anR_e]
        exact up j (by omega)
    exact up q (by omega)
theorem rd_cond (hn : n ≤ 400) (cs : CsC b r) : RdM b r t n 361 (anR t n (atR t n 5)) 39 0 := by
  have i := rd_atom (t := t) (n := n) hn cs 5 (Nat.le_refl _)
  have oA : ∀ a q, a ≤ n → atR t n 5 a = .inr q → okAt t n 23 11 a q := fun a q ha h => atR_ok 5 a q ha h
  exact rd_any hn cs (by omega) (alR_ok oA) (rd_all hn cs (by omega) oA i)
end
