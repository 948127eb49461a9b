set_option maxRecDepth 100000
/-! a night is copied: the slugs -/
theorem rSg_e {h : am_H} {L : am_Lb} {N g : Nat} {S T : am_G} {s : Int} (e2 : T 2 = S 2) (e4 : T 4 = S 4) : rSg h L N T s g ↔ rSg h L N S s g := by
  unfold rSg
  rw [e2, e4]
/-- one slug more: what is there behind the list's own change -/
theorem cp_sg {h' hS h2 : am_H} {L1 L2 : am_Lb} {Z l : Nat} {S : am_G} {k : Int} (Z0 : Z ≠ 0) (k0 : 0 ≤ k ∧ k < 300) (rl : rL hS L1 l Z 4 0 0 k 400) (ok1 : okLb hS L1) (old : ∀ s, 0 ≤ s → s < k → rSg hS L1 Z S s (am_ar hS (am_fr hS 194 l) s)) (new : rSg hS L1 Z S k (am_sz h' + 1)) (m3 : am_fi hS 193 l = k) (f2 : fx (fun q => q = l ∨ (q = am_fr hS 194 l ∧ am_fi hS 195 l < am_ln hS (am_fr hS 194 l))) hS h2) (le2 : leL hS L1 L2) (rl2 : rL h2 L2 l Z 4 0 0 (k + 1) 401) (e3 : am_fi h2 193 l = am_fi hS 193 l + 1) (el : ∀ j, 0 ≤ j → j < am_fi hS 195 l → am_ar h2 (am_fr h2 194 l) j = am_ar hS (am_fr hS 194 l) j) (en : am_ar h2 (am_fr h2 194 l) (am_fi hS 195 l) = am_sz h' + 1) : rG h2 L2 Z l (u3 S 0 0 4 (k + 1)) 400 := by
  have rn := rl.2.2.2.2.1
  have e04 : (u3 S 0 0 4 (k + 1)) 0 0 4 = k + 1 := u3_eq
  have e2 : (u3 S 0 0 4 (k + 1)) 2 = S 2 := u3_r (by decide)
  have e4 : (u3 S 0 0 4 (k + 1)) 4 = S 4 := u3_r (by decide)
  have ow := rL_X rl
  have nz : ∀ s g t, nd hS L1 g t Z 4 2 s → ¬ (g = l ∨ (g = am_fr hS 194 l ∧ am_fi hS 195 l < am_ln hS (am_fr hS 194 l))) := fun s g t n z => by
    have a := n.2.2.2
    rcases z with z | z
    · rw [z, rl.2.2.1] at a
      injection a with _ a
      injection a with _ a
      injection a with a _
      exact absurd a (by decide)
    · rw [z.1, rl.2.2.2.1 (by have := rl.1.1.2.2.1; omega)] at a
      injection a with _ a
      injection a with _ a
      injection a with a _
      exact absurd a (by decide)
  unfold rG
  rw [e04]
  refine ⟨⟨rl2.1, rl2.2.1, rl2.2.2.1, rl2.2.2.2.1, rl2.2.2.2.2.1, by rw [e3, m3]; omega⟩, fun s s0 s1 => ?_⟩
  rw [rSg_e e2 e4]
  by_cases c : s = k
  · rw [c, ← rn, en, rn]
    exact rSg_fx f2 le2 ok1 (fun q hq z => by rw [(ow q hq z).1]; exact Z0) rfl rfl new (nz _ _ _ new.1)
  · have y := old s s0 (by omega)
    rw [el s s0 (by omega)]
    exact rSg_fx f2 le2 ok1 (fun q hq z => by rw [(ow q hq z).1]; exact Z0) rfl rfl y (nz _ _ _ y.1)
section
variable {K : am_K} {h : am_H}
theorem cp_89 {L : am_Lb} {Ns Z P : Nat} {S : am_G} {B : Int} {d : Nat} (hd : 30 ≤ d + 12) (ok : okLb h L) (cs : (am_ty h (am_cs h 0) = 134 ∧ am_cs h 0 ≤ am_sz h ∧ am_ln h (am_cs h 0) = 0)) (rep : Rep h L Ns P S B) (hZ : Z = am_sz h + 1) (ow : ∀ q, q ≤ am_sz h → (L q).1 ≠ Z) (hC : okC S) (H : ∀ h' L', fx (fun _ => False) h h' → leL h L L' → okLb h' L' → Rep h' L' Z P S 400 → (∀ q, am_sz h < q → (L' q).1 = 0 ∨ (L' q).1 = Z) → (am_sz h' : Int) ≤ am_sz h + 600 + S 0 0 4 + capG h' Z → (am_us h' : Int) ≤ am_us h + 9000 + 11 * S 0 0 4 + 5 * capG h' Z → K (.inl (some (.inr (.inl (Z))))) h') (hG : okG S) {T7 T8 T9 T10 : am_G} {F : Nat → Int} (f18 : F 18 = S 0 0 0) (f21 : F 21 = S 0 0 1) (f24 : F 24 = S 0 0 3) (t7 : T7 0 0 5 = 0) (t9 : T9 0 0 6 = 0) {r2 : Nat} (hr2 : am_sz h < r2) : ∀ k, 0 ≤ k → k ≤ S 0 0 4 → ∀ h' L', CpS h L Z P (584 + k) (7770 + 11 * k) F S S S S (u3 S 0 0 4 (k)) T7 T8 T9 T10 h' L' → (am_fr h' 194 (am_fr h' 26 Z) = am_cs h' 0 ∧ am_fi h' 193 (am_fr h' 26 Z) = 0) → (am_fr h' 194 (am_fr h' 28 Z) = am_cs h' 0 ∧ am_fi h' 193 (am_fr h' 28 Z) = 0) → am_fi h' 193 (am_fr h' 25 Z) = k → itC h' r2 (am_fr h 25 Ns) k (am_fi h 193 (am_fr h 25 Ns)) → L' r2 = (Z, 20, 0, 0) → r2 ≤ am_sz h' → ∀ o3, am_W m_X3_copy (am_ev am_prog (d + 12)) K 89 [some (.inr (.inl (Ns))), some (.inr (.inl (Z))), some (.inr (.inl (r2))), o3] [] h' := by
  have g4 := hG.1
  have rG0 := rep.2.2.2.2.2.1
  have rl0 := rG0.1
  have r5 := rl0.2.2.2.2.1
  refine lp_z ?_ ?_
  · intro k k0 k1 hL h' L' x em6 em8 m3 ic lr2 rz o3
    obtain ⟨x1, x2, x3, x4, x5, x6, x7⟩ := x
    obtain ⟨c1, c2, c3, c4⟩ := ic
    have cs' := cs_fx x1 cs
    have Z0 := x5.1.2.2.1
    have kq := x1.2.2.2 (am_fr h 25 Ns) rl0.1.1.2.2.2.2.1
    have kq' := kq.2.2 (fun z => z)
    have xl := (xL_fx x1 (fun z => z) rl0.1.1).1
    have ea : am_fr h' 194 (am_fr h 25 Ns) = (am_fr h 194 (am_fr h 25 Ns)) := kq'.2.1 194
    have ka := x1.2.2.2 _ rl0.1.1.2.2.2.2.2
    have er : am_ar h' (am_fr h 194 (am_fr h 25 Ns)) = am_ar h (am_fr h 194 (am_fr h 25 Ns)) := (ka.2.2 (fun z => z)).2.2.2
    have sg := rG0.2 k k0 k1
    have ks := x1.2.2.2 _ sg.1.2.1
    have ks' := ks.2.2 (fun z => z)
    have q4 := x5.2.2.2.2.2.2.2.1
    have q7 := x5.2.2.2.2.2.2.2.2.1
    have q9 := x5.2.2.2.2.2.2.2.2.2.2.1
    have e04 : (u3 S 0 0 4 (k)) 0 0 4 = k := u3_eq
    have rl := q4.1
    rw [e04] at rl
    have tg : (if S 4 k 7 = 1 then 24 else 23) = 23 ∨ (if S 4 k 7 = 1 then 24 else 23) = 24 := by
      by_cases c : S 4 k 7 = 1
      · rw [if_pos c]
        exact Or.inr rfl
      · rw [if_neg c]
        exact Or.inl rfl
    refine v_X3_copy_89 ?_
    rw [c2, c3, kq'.1 195, r5, ea, er, ks.1, ks'.1 155, ks'.1 156, ks'.1 157, ks'.1 158, ks'.1 159, ks'.1 161, ks'.1 162, ks'.1 163, ks'.1 165, ks'.2.1 160, ks'.2.1 164, sg.1.1, sg.2.1, sg.2.2.1, sg.2.2.2.1, sg.2.2.2.2.1, sg.2.2.2.2.2.1, sg.2.2.2.2.2.2.2.1, sg.2.2.2.2.2.2.2.2.1, sg.2.2.2.2.2.2.2.2.2.1, sg.2.2.2.2.2.2.2.2.2.2.2]
    have go : ∀ t, t = (if S 4 k 7 = 1 then 24 else 23) → (t = 23 ∨ t = 24) → am_ev am_prog (d + 12) 205 [.inr (.inl (am_fr h' 25 Z)), .inr (.inl (am_sz h' + 1))] (sC15 h' r2 t (k + 1) k (S 4 k 0) (S 4 k 1) (S 4 k 2) (S 4 k 8) (S 2 0 (S 4 k 0 / 5)) (S 4 k 10 + 2 * S 4 k 11) (S 4 k 4) (S 4 k 6) (S 4 k 5) (am_fr h 160 (am_ar h (am_fr h 194 (am_fr h 25 Ns)) k)) (am_fr h 164 (am_ar h (am_fr h 194 (am_fr h 25 Ns)) k))) (am_aft (am_hand m_X3_copy K (am_W m_X3_copy (am_ev am_prog (d + 12)) K) 100) (am_W m_X3_copy (am_ev am_prog (d + 12)) K) 100 [some (.inr (.inl (Ns))), some (.inr (.inl (Z))), some (.inr (.inl (r2))), some (.inr (.inl ((am_ar h (am_fr h 194 (am_fr h 25 Ns)) k))))] []) := by
      intro t et t34
      have fS := sC_fx (h := h') (r := r2) (t := t) (a0 := k + 1) (a1 := k) (b0 := S 4 k 0) (b1 := S 4 k 1) (b2 := S 4 k 2) (b3 := S 4 k 8) (b4 := S 2 0 (S 4 k 0 / 5)) (b5 := S 4 k 10 + 2 * S 4 k 11) (b6 := S 4 k 4) (b7 := S 4 k 6) (b8 := S 4 k 5) (c0 := am_fr h 160 (am_ar h (am_fr h 194 (am_fr h 25 Ns)) k)) (c1 := am_fr h 164 (am_ar h (am_fr h 194 (am_fr h 25 Ns)) k))
      have tS : am_ty (sC15 h' r2 t (k + 1) k (S 4 k 0) (S 4 k 1) (S 4 k 2) (S 4 k 8) (S 2 0 (S 4 k 0 / 5)) (S 4 k 10 + 2 * S 4 k 11) (S 4 k 4) (S 4 k 6) (S 4 k 5) (am_fr h 160 (am_ar h (am_fr h 194 (am_fr h 25 Ns)) k)) (am_fr h 164 (am_ar h (am_fr h 194 (am_fr h 25 Ns)) k))) (am_sz h' + 1) = t := sC_t1 rz
      have v155 : am_fi (sC15 h' r2 t (k + 1) k (S 4 k 0) (S 4 k 1) (S 4 k 2) (S 4 k 8) (S 2 0 (S 4 k 0 / 5)) (S 4 k 10 + 2 * S 4 k 11) (S 4 k 4) (S 4 k 6) (S 4 k 5) (am_fr h 160 (am_ar h (am_fr h 194 (am_fr h 25 Ns)) k)) (am_fr h 164 (am_ar h (am_fr h 194 (am_fr h 25 Ns)) k))) 155 (am_sz h' + 1) = S 4 k 0 := sC_i155 rz
      have v156 : am_fi (sC15 h' r2 t (k + 1) k (S 4 k 0) (S 4 k 1) (S 4 k 2) (S 4 k 8) (S 2 0 (S 4 k 0 / 5)) (S 4 k 10 + 2 * S 4 k 11) (S 4 k 4) (S 4 k 6) (S 4 k 5) (am_fr h 160 (am_ar h (am_fr h 194 (am_fr h 25 Ns)) k)) (am_fr h 164 (am_ar h (am_fr h 194 (am_fr h 25 Ns)) k))) 156 (am_sz h' + 1) = S 4 k 1 := sC_i156 rz
      have v157 : am_fi (sC15 h' r2 t (k + 1) k (S 4 k 0) (S 4 k 1) (S 4 k 2) (S 4 k 8) (S 2 0 (S 4 k 0 / 5)) (S 4 k 10 + 2 * S 4 k 11) (S 4 k 4) (S 4 k 6) (S 4 k 5) (am_fr h 160 (am_ar h (am_fr h 194 (am_fr h 25 Ns)) k)) (am_fr h 164 (am_ar h (am_fr h 194 (am_fr h 25 Ns)) k))) 157 (am_sz h' + 1) = S 4 k 2 := sC_i157 rz
      have v158 : am_fi (sC15 h' r2 t (k + 1) k (S 4 k 0) (S 4 k 1) (S 4 k 2) (S 4 k 8) (S 2 0 (S 4 k 0 / 5)) (S 4 k 10 + 2 * S 4 k 11) (S 4 k 4) (S 4 k 6) (S 4 k 5) (am_fr h 160 (am_ar h (am_fr h 194 (am_fr h 25 Ns)) k)) (am_fr h 164 (am_ar h (am_fr h 194 (am_fr h 25 Ns)) k))) 158 (am_sz h' + 1) = S 4 k 8 := sC_i158 rz
      have v159 : am_fi (sC15 h' r2 t (k + 1) k (S 4 k 0) (S 4 k 1) (S 4 k 2) (S 4 k 8) (S 2 0 (S 4 k 0 / 5)) (S 4 k 10 + 2 * S 4 k 11) (S 4 k 4) (S 4 k 6) (S 4 k 5) (am_fr h 160 (am_ar h (am_fr h 194 (am_fr h 25 Ns)) k)) (am_fr h 164 (am_ar h (am_fr h 194 (am_fr h 25 Ns)) k))) 159 (am_sz h' + 1) = S 2 0 (S 4 k 0 / 5) := sC_i159 rz
      have v161 : am_fi (sC15 h' r2 t (k + 1) k (S 4 k 0) (S 4 k 1) (S 4 k 2) (S 4 k 8) (S 2 0 (S 4 k 0 / 5)) (S 4 k 10 + 2 * S 4 k 11) (S 4 k 4) (S 4 k 6) (S 4 k 5) (am_fr h 160 (am_ar h (am_fr h 194 (am_fr h 25 Ns)) k)) (am_fr h 164 (am_ar h (am_fr h 194 (am_fr h 25 Ns)) k))) 161 (am_sz h' + 1) = S 4 k 6 := sC_i161 rz
      have v162 : am_fi (sC15 h' r2 t (k + 1) k (S 4 k 0) (S 4 k 1) (S 4 k 2) (S 4 k 8) (S 2 0 (S 4 k 0 / 5)) (S 4 k 10 + 2 * S 4 k 11) (S 4 k 4) (S 4 k 6) (S 4 k 5) (am_fr h 160 (am_ar h (am_fr h 194 (am_fr h 25 Ns)) k)) (am_fr h 164 (am_ar h (am_fr h 194 (am_fr h 25 Ns)) k))) 162 (am_sz h' + 1) = S 4 k 5 := sC_i162 rz
      have v163 : am_fi (sC15 h' r2 t (k + 1) k (S 4 k 0) (S 4 k 1) (S 4 k 2) (S 4 k 8) (S 2 0 (S 4 k 0 / 5)) (S 4 k 10 + 2 * S 4 k 11) (S 4 k 4) (S 4 k 6) (S 4 k 5) (am_fr h 160 (am_ar h (am_fr h 194 (am_fr h 25 Ns)) k)) (am_fr h 164 (am_ar h (am_fr h 194 (am_fr h 25 Ns)) k))) 163 (am_sz h' + 1) = S 4 k 4 := sC_i163 rz
      have v165 : am_fi (sC15 h' r2 t (k + 1) k (S 4 k 0) (S 4 k 1) (S 4 k 2) (S 4 k 8) (S 2 0 (S 4 k 0 / 5)) (S 4 k 10 + 2 * S 4 k 11) (S 4 k 4) (S 4 k 6) (S 4 k 5) (am_fr h 160 (am_ar h (am_fr h 194 (am_fr h 25 Ns)) k)) (am_fr h 164 (am_ar h (am_fr h 194 (am_fr h 25 Ns)) k))) 165 (am_sz h' + 1) = S 4 k 10 + 2 * S 4 k 11 := sC_i165 rz
      have v160 : am_fr (sC15 h' r2 t (k + 1) k (S 4 k 0) (S 4 k 1) (S 4 k 2) (S 4 k 8) (S 2 0 (S 4 k 0 / 5)) (S 4 k 10 + 2 * S 4 k 11) (S 4 k 4) (S 4 k 6) (S 4 k 5) (am_fr h 160 (am_ar h (am_fr h 194 (am_fr h 25 Ns)) k)) (am_fr h 164 (am_ar h (am_fr h 194 (am_fr h 25 Ns)) k))) 160 (am_sz h' + 1) = am_fr h 160 (am_ar h (am_fr h 194 (am_fr h 25 Ns)) k) := sC_r160 rz
      have v164 : am_fr (sC15 h' r2 t (k + 1) k (S 4 k 0) (S 4 k 1) (S 4 k 2) (S 4 k 8) (S 2 0 (S 4 k 0 / 5)) (S 4 k 10 + 2 * S 4 k 11) (S 4 k 4) (S 4 k 6) (S 4 k 5) (am_fr h 160 (am_ar h (am_fr h 194 (am_fr h 25 Ns)) k)) (am_fr h 164 (am_ar h (am_fr h 194 (am_fr h 25 Ns)) k))) 164 (am_sz h' + 1) = am_fr h 164 (am_ar h (am_fr h 194 (am_fr h 25 Ns)) k) := sC_r164 rz
      have j196 : am_fi (sC15 h' r2 t (k + 1) k (S 4 k 0) (S 4 k 1) (S 4 k 2) (S 4 k 8) (S 2 0 (S 4 k 0 / 5)) (S 4 k 10 + 2 * S 4 k 11) (S 4 k 4) (S 4 k 6) (S 4 k 5) (am_fr h 160 (am_ar h (am_fr h 194 (am_fr h 25 Ns)) k)) (am_fr h 164 (am_ar h (am_fr h 194 (am_fr h 25 Ns)) k))) 196 r2 = k + 1 := sC_j196 rz
      have j198 : am_fi (sC15 h' r2 t (k + 1) k (S 4 k 0) (S 4 k 1) (S 4 k 2) (S 4 k 8) (S 2 0 (S 4 k 0 / 5)) (S 4 k 10 + 2 * S 4 k 11) (S 4 k 4) (S 4 k 6) (S 4 k 5) (am_fr h 160 (am_ar h (am_fr h 194 (am_fr h 25 Ns)) k)) (am_fr h 164 (am_ar h (am_fr h 194 (am_fr h 25 Ns)) k))) 198 r2 = am_fi h' 198 r2 := sC_j198 rz
      have j199 : am_fr (sC15 h' r2 t (k + 1) k (S 4 k 0) (S 4 k 1) (S 4 k 2) (S 4 k 8) (S 2 0 (S 4 k 0 / 5)) (S 4 k 10 + 2 * S 4 k 11) (S 4 k 4) (S 4 k 6) (S 4 k 5) (am_fr h 160 (am_ar h (am_fr h 194 (am_fr h 25 Ns)) k)) (am_fr h 164 (am_ar h (am_fr h 194 (am_fr h 25 Ns)) k))) 199 r2 = am_fr h' 199 r2 := sC_q199 rz
      have jt : am_ty (sC15 h' r2 t (k + 1) k (S 4 k 0) (S 4 k 1) (S 4 k 2) (S 4 k 8) (S 2 0 (S 4 k 0 / 5)) (S 4 k 10 + 2 * S 4 k 11) (S 4 k 4) (S 4 k 6) (S 4 k 5) (am_fr h 160 (am_ar h (am_fr h 194 (am_fr h 25 Ns)) k)) (am_fr h 164 (am_ar h (am_fr h 194 (am_fr h 25 Ns)) k))) r2 = am_ty h' r2 := sC_tr rz
      have zS : am_sz (sC15 h' r2 t (k + 1) k (S 4 k 0) (S 4 k 1) (S 4 k 2) (S 4 k 8) (S 2 0 (S 4 k 0 / 5)) (S 4 k 10 + 2 * S 4 k 11) (S 4 k 4) (S 4 k 6) (S 4 k 5) (am_fr h 160 (am_ar h (am_fr h 194 (am_fr h 25 Ns)) k)) (am_fr h 164 (am_ar h (am_fr h 194 (am_fr h 25 Ns)) k))) = am_sz h' + 1 := rfl
      have uS : am_us (sC15 h' r2 t (k + 1) k (S 4 k 0) (S 4 k 1) (S 4 k 2) (S 4 k 8) (S 2 0 (S 4 k 0 / 5)) (S 4 k 10 + 2 * S 4 k 11) (S 4 k 4) (S 4 k 6) (S 4 k 5) (am_fr h 160 (am_ar h (am_fr h 194 (am_fr h 25 Ns)) k)) (am_fr h 164 (am_ar h (am_fr h 194 (am_fr h 25 Ns)) k))) = am_us h' + 11 := rfl
      generalize (sC15 h' r2 t (k + 1) k (S 4 k 0) (S 4 k 1) (S 4 k 2) (S 4 k 8) (S 2 0 (S 4 k 0 / 5)) (S 4 k 10 + 2 * S 4 k 11) (S 4 k 4) (S 4 k 6) (S 4 k 5) (am_fr h 160 (am_ar h (am_fr h 194 (am_fr h 25 Ns)) k)) (am_fr h 164 (am_ar h (am_fr h 194 (am_fr h 25 Ns)) k))) = hS at *
      have le1 : leL h' L' (lbA L' h' (am_sz h' + 1) (Z, 4, 2, k)) := fun q hq => if_neg (fun y => absurd y.2 (by omega))
      have ok1 : okLb hS (lbA L' h' (am_sz h' + 1) (Z, 4, 2, k)) := okLb_lb x3 fS ⟨by omega, by omega⟩ (by rw [tS]; unfold imT; omega)
      have lq : lbA L' h' (am_sz h' + 1) (Z, 4, 2, k) (am_sz h' + 1) = (Z, 4, 2, k) := if_pos ⟨rfl, by omega⟩
      have ln1 : ∀ q, am_sz h' < q → (lbA L' h' (am_sz h' + 1) (Z, 4, 2, k) q).1 = 0 ∨ (lbA L' h' (am_sz h' + 1) (Z, 4, 2, k) q).1 = Z := lbA_n (h' := h') x3
      generalize lbA L' h' (am_sz h' + 1) (Z, 4, 2, k) = L1 at le1 ok1 lq ln1
      have hX1 : ∀ q, q ≤ am_sz h' → q = r2 → (L' q).1 = Z ∧ (L' q).2.1 = 20 := fun q _ e => by
        rw [e, lr2]
        exact ⟨rfl, rfl⟩
      obtain ⟨⟨a0, ar, ap, af⟩, a1, a3, a6, a5, a4, a7, a8, a9, a10⟩ := CpI_gr 20 (by decide) x5 fS le1 x3 cs'.1 hX1
      have cS : CpI hS L1 Z P F S S S S (u3 S 0 0 4 (k)) T7 T8 T9 T10 400 := CpI_mk a0 ar ap af (a1 (by decide)) (a3 (by decide)) (a6 (by decide)) (a5 (by decide)) (a4 (by decide)) (a7 (by decide)) (a8 (by decide)) (a9 (by decide)) (a10 (by decide))
      have csS := cs_fx fS cs'
      -- the new slug
      have f0S : fx (fun _ => False) h hS := fx_trans2 x1 fS (fun q hq e => absurd hq (by omega))
      have le01 : leL h L L1 := fun q hq => (le1 q (Nat.le_trans hq x1.1)).trans (x2 q hq)
      have new : rSg hS L1 Z S k (am_sz h' + 1) := by
        refine ⟨⟨by rw [tS, et], by omega, by omega, lq⟩, v155, v156, v157, v158, v159, ?_, v161, v162, v163, ?_, v165⟩
        · rw [v160]
          exact iSc_fx f0S le01 (fun _ _ z => z.elim) sg.2.2.2.2.2.2.1
        · rw [v164]
          exact iSc_fx f0S le01 (fun _ _ z => z.elim) sg.2.2.2.2.2.2.2.2.2.2.1
      have q4S := a4 (by decide)
      have rlS := q4S.1
      rw [e04] at rlS
      have nl : ∀ q g, L' q = (Z, g, 0, 0) → g ≠ 20 → q ≠ r2 := fun q g a g20 e => by
        rw [e, lr2] at a
        injection a with _ a
        injection a with a _
        exact g20 a.symm
      have k25 := (fS.2.2.2 _ rl.1.1.2.2.2.2.1).2.2 (nl _ _ rl.2.2.1 (by decide))
      have m3S : am_fi hS 193 (am_fr h' 25 Z) = k := (k25.1 193).trans m3
      have old : ∀ s, 0 ≤ s → s < k → rSg hS L1 Z S s (am_ar hS (am_fr hS 194 (am_fr h' 25 Z)) s) := fun s s0 s1 => by
        have y := q4S.2 s s0 (by rw [e04]; exact s1)
        rw [rSg_e (u3_r (by decide)) (u3_r (by decide))] at y
        exact y
      refine c_add (d := d + 3) rlS.1 (fun e => by rw [← e, rlS.2.2.2.2.1]; omega) ⟨by omega, by rw [tS]; rcases t34 with rfl | rfl <;> simp [am_tin]⟩ (by omega) (by omega) (fun h2 f2 xm e5 e3 el en hA hs hu hg => am_av (v_X3_copy_101 ?_))
      obtain ⟨le2, ok2, rl2⟩ := rL_add ok1 rlS f2 xm e5 e3 hA hg
      have ln2 : ∀ q, am_sz hS < q → (lbA L1 hS (am_fr h2 194 (am_fr h' 25 Z)) (Z, 4, 0 + 1, 0) q).1 = 0 ∨ (lbA L1 hS (am_fr h2 194 (am_fr h' 25 Z)) (Z, 4, 0 + 1, 0) q).1 = Z := lbA_n (h' := h2) ok1
      generalize lbA L1 hS (am_fr h2 194 (am_fr h' 25 Z)) (Z, 4, 0 + 1, 0) = L2 at le2 ok2 rl2 ln2
      have y4 := cp_sg (h' := h') Z0 ⟨k0, by omega⟩ rlS ok1 old new m3S f2 le2 rl2 e3 el en
      have hX2 := rL_X rlS
      obtain ⟨⟨w0, wr, wp, wf⟩, w1, w3, w6, w5, _, w7, w8, w9, w10⟩ := CpI_gr 4 (by decide) cS f2 le2 ok1 csS.1 hX2
      have fA : fx (fun q => q = r2 ∨ (q ≤ am_sz hS ∧ (L1 q).1 = Z ∧ (L1 q).2.1 = 4)) h' h2 := fx_trans2 (fx_sub fS (fun q _ e => Or.inl e)) f2 (fun q hq e => Or.inr ⟨by omega, hX2 q (by omega) e⟩)
      obtain ⟨z1, z2, z3⟩ := CpS_fr x1 x2 x4 ow fA (fun q hq => (le2 q (by omega)).trans (le1 q hq)) (fun q hq e => by
        rcases e with e | e
        · rw [e, lr2]
        · rw [← le1 q hq]
          exact e.2.1) (fun q hq => by
        by_cases c : q ≤ am_sz hS
        · rw [le2 q c]
          exact ln1 q hq
        · exact ln2 q (by omega))
      -- cells of other groups are left
      have lf : ∀ q g, q ≤ am_sz h' → L' q = (Z, g, 0, 0) → g ≠ 20 → g ≠ 4 → (∀ f, am_fi h2 f q = am_fi h' f q) ∧ ∀ f, am_fr h2 f q = am_fr h' f q := fun q g hq a g20 g4 => by
        have b := (fS.2.2.2 q hq).2.2 (nl q g a g20)
        have c := (f2.2.2.2 q (by omega)).2.2 (fun e => by
          have e2 := (hX2 q (by omega) e).2
          rw [le1 q hq, a] at e2
          exact g4 e2)
        exact ⟨fun f => (c.1 f).trans (b.1 f), fun f => (c.2.1 f).trans (b.2.1 f)⟩
      have l6 := lf _ _ q7.1.1.1.2.2.2.2.1 q7.1.2.2.1 (by decide) (by decide)
      have l8 := lf _ _ q9.1.1.1.2.2.2.2.1 q9.1.2.2.1 (by decide) (by decide)
      have arr : ∀ f, am_fr h2 f Z = am_fr h' f Z := fun f => (wr f).trans (ar f)
      have em6' : (am_fr h2 194 (am_fr h2 26 Z) = am_cs h2 0 ∧ am_fi h2 193 (am_fr h2 26 Z) = 0) := by
        rw [arr 26, l6.2 194, l6.1 193, congrFun f2.2.2.1 0, congrFun fS.2.2.1 0]
        exact em6
      have em8' : (am_fr h2 194 (am_fr h2 28 Z) = am_cs h2 0 ∧ am_fi h2 193 (am_fr h2 28 Z) = 0) := by
        rw [arr 28, l8.2 194, l8.1 193, congrFun f2.2.2.1 0, congrFun fS.2.2.1 0]
        exact em8
      have ci := (f2.2.2.2 r2 (by omega)).2.2 (fun e => by
        have e2 := (hX2 r2 (by omega) e).2
        rw [le1 r2 rz, lr2] at e2
        exact absurd e2 (by show ¬ ((20 : Nat) = 4); decide))
      have cj := f2.2.2.2 r2 (by omega)
      have ic2 : itC h2 r2 (am_fr h 25 Ns) (k + 1) (am_fi h 193 (am_fr h 25 Ns)) := ⟨cj.1.trans (jt.trans c1), (ci.2.1 199).trans (j199.trans c2), (ci.1 196).trans j196, (ci.1 198).trans (j198.trans c4)⟩
      have eS : capG hS Z = capG h' Z := by
        have kA := fS.2.2.2 _ rl.1.1.2.2.2.2.2
        unfold capG
        rw [ar 25, k25.2.1 194]
        exact kA.2.1
      have eC : capG h2 Z = am_ln h2 (am_fr h2 194 (am_fr h' 25 Z)) := by
        unfold capG
        rw [arr 25]
      have eC' : capG hS Z = am_ln hS (am_fr hS 194 (am_fr h' 25 Z)) := by
        unfold capG
        rw [ar 25]
      rw [← eC, ← eC', eS] at hs hu
      have m3' : am_fi h2 193 (am_fr h2 25 Z) = k + 1 := by
        rw [arr 25, e3, m3S]
      refine hL h2 L2 ⟨z1, z2, ok2, z3, ?_, by omega, by omega⟩ em6' em8' m3' ic2 ((le2 r2 (by omega)).trans ((le1 r2 rz).trans lr2)) (by have := f2.1; omega) _
      refine CpI_mk (h := hS) w0 wr wp wf (w1 (by decide)) (w3 (by decide)) (w6 (by decide)) (w5 (by decide)) ?_ (w7 (by decide)) (w8 (by decide)) (w9 (by decide)) (w10 (by decide))
      rw [ar 25]
      exact y4
    refine ⟨c1, kq.1.trans rl0.1.1.1, fun e => absurd e (by omega), fun _ => ⟨⟨c1, by rw [c2]; exact xl, by rw [c2, kq'.1 193]; exact c4.symm, by rw [c2, c3, kq'.1 195, r5]; omega⟩, ⟨Or.inr tg, x5.1.1⟩, tg, ?_⟩⟩
    rcases tg with tg | tg
    · exact Or.inl ⟨tg, Nat.le_trans sg.1.2.1 x1.1, ⟨rl.1.1.2.2.2.2.1, rl.1.1.1⟩, go 23 tg.symm (Or.inl rfl)⟩
    · exact Or.inr ⟨tg, Nat.le_trans sg.1.2.1 x1.1, ⟨rl.1.1.2.2.2.2.1, rl.1.1.1⟩, go 24 tg.symm (Or.inr rfl)⟩
  · intro h' L' x em6 em8 m3 ic lr2 rz o3
    obtain ⟨c1, c2, c3, c4⟩ := ic
    have x' := x
    obtain ⟨x1, x2, x3, x4, x5, x6, x7⟩ := x
    have kq := x1.2.2.2 (am_fr h 25 Ns) rl0.1.1.2.2.2.2.1
    have kq' := kq.2.2 (fun z => z)
    have kN := x1.2.2.2 Ns rep.1.1.2.1
    have eU : (u3 S 0 0 4 (S 0 0 4)) = S := u3_id rfl
    rw [eU] at x'
    refine v_X3_copy_89 ?_
    rw [c2, c3, kq'.1 195, r5]
    exact ⟨c1, kq.1.trans rl0.1.1.1, fun _ => ⟨⟨x5.1.1, kN.1.trans rep.1.1.1⟩, x5.2.2.2.2.2.2.2.2.1.1.1.1.1, cp_107 hd ok cs rep hZ ow hC H f18 f21 f24 t7 t9 h' L' x' em6 em8 _⟩, fun z => absurd rfl z⟩
end
