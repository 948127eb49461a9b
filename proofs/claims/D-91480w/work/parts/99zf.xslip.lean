set_option maxRecDepth 100000
/-! a slip: the component -/
theorem sgL_p {g t : Int → Int} {n : Nat} (h : ∀ k : Int, 0 ≤ k → k < n → g k = t (0 + k)) : pf g (sgL t 0 n) := fun k hk => by
  rw [sgL_l] at hk
  rw [sgL_g n k hk]
  exact h k (by omega) (by omega)
theorem sgL_m {t : Int → Int} {lo hi : Int} : ∀ n : Nat, (∀ k : Int, 0 ≤ k → k < n → lo ≤ t (0 + k) ∧ t (0 + k) ≤ hi) → ∀ x, x ∈ sgL t 0 n → lo ≤ x ∧ x ≤ hi
  | 0, _, x, hx => absurd hx (List.not_mem_nil)
  | n + 1, h, x, hx => by
    rcases List.mem_append.mp hx with w | w
    · exact sgL_m n (fun k k1 k2 => h k k1 (by omega)) x w
    · have e : x = t (0 + n) := List.mem_singleton.mp w
      rw [e]
      exact h n (by omega) (by omega)
theorem xSc_l {h : am_H} {s : Nat} {n : Int} {f : Int → Int} (x : xSc h s n f) (hn : 0 ≤ n) : xSl h s (sgL f 0 n.toNat) := by
  obtain ⟨x1, x2, x3⟩ := x
  refine ⟨x1, by rw [sgL_l, x2]; omega, sgL_p (fun k k1 k2 => ?_)⟩
  have e : 0 + k = k := by omega
  rw [e]
  exact x3 k k1 (by omega)
section
variable {K : am_K} {h : am_H}
/-- a builder of a string -/
theorem c_sbS {s : Nat} {m : List Int} {d : Nat} (w : xSl h s m) (hm : ∀ x, x ∈ m → 0 ≤ x ∧ x ≤ 127) (hs : s ≠ 0) (hl : (m.length : Int) ≤ 420) (H : ∀ h', fx (fun _ => False) h h' → xB h' (am_sz h + 1) m → (am_sz h + 1 < am_fr h' 185 (am_sz h + 1)) → (am_sz h' : Int) ≤ am_sz h + 900 → (am_us h' : Int) ≤ am_us h + 2200 → K (.inl none) h') : am_ev am_prog (d + 12) 277 [.inr (.inl (am_sz h + 1)), .inr (.inl s)] (am_new h 29 4) K := by
  have ty0 : am_ty (am_new h 29 4) (am_sz h + 1) = 29 := x_tyn0 rfl
  have fn : fx (fun _ => False) h (am_new h 29 4) := fx0_new
  obtain ⟨w1, w2, w3⟩ := w
  obtain ⟨v1, v2, v3, v4, v5, v6⟩ := w1
  have os := fn.2.2.2 s v5.1
  have ov := fn.2.2.2 _ v5.2
  have o1 := os.2.2 (fun z => z)
  have r190 : am_fi (am_new h 29 4) 190 s = 0 := (o1.1 190).trans v3
  have r189 : am_fr (am_new h 29 4) 189 s = am_fr h 189 s := o1.2.1 189
  have rln : am_ln (am_new h 29 4) (am_fr h 189 s) = (m.length : Int) := ov.2.1.trans w2
  refine am_en p_J1_init_2 rfl rfl (v_J1_init_2_0 ⟨ty0, ?_⟩)
  refine am_en p_J0_init_2 rfl rfl (v_J0_init_2_0 ?_)
  have e0 : am_shrz (m.length : Int) 0 = (m.length : Int) := am_shr0 (by omega)
  rw [r190, r189, rln, e0]
  refine ⟨ty0, ?_, ?_, by omega, fun z => absurd z (by omega), fun _ => ⟨by omega, fun z => absurd rfl z, fun _ => ⟨by omega, Nat.le_refl _, ?_⟩⟩⟩
  · rw [os.1]
    exact v1
  · rw [ov.1]
    exact v2
  have tn : (((m.length : Int) + 16).toNat : Nat) = m.length + 16 := by omega
  rw [tn]
  have zn : am_sz (am_new h 29 4) = am_sz h + 1 := rfl
  rw [zn]
  have fB : fx (fun _ => False) h (am_sfr (am_new (am_sfi (am_new h 29 4) 186 (am_sz h + 1) 0) 102 (m.length + 16)) 185 (am_sz h + 1) (am_sz h + 1 + 1)) := fx_sfr (fx_new (fx_sfi (fx_new fx_refl) (Or.inl (by omega)))) (Or.inl (by omega))
  have f185 : am_fr (am_sfr (am_new (am_sfi (am_new h 29 4) 186 (am_sz h + 1) 0) 102 (m.length + 16)) 185 (am_sz h + 1) (am_sz h + 1 + 1)) 185 (am_sz h + 1) = am_sz h + 1 + 1 := x_fre
  have tyA : am_ty (am_new (am_sfi (am_new h 29 4) 186 (am_sz h + 1) 0) 102 (m.length + 16)) (am_sz h + 1 + 1) = 102 := x_tyn0 rfl
  have lnA : am_ln (am_sfr (am_new (am_sfi (am_new h 29 4) 186 (am_sz h + 1) 0) 102 (m.length + 16)) 185 (am_sz h + 1) (am_sz h + 1 + 1)) (am_sz h + 1 + 1) = ((m.length + 16 : Nat) : Int) := x_lnn0 (h := am_sfi (am_new h 29 4) 186 (am_sz h + 1) 0) (t := 102) (n := m.length + 16) rfl
  have zB : am_sz (am_sfr (am_new (am_sfi (am_new h 29 4) 186 (am_sz h + 1) 0) 102 (m.length + 16)) 185 (am_sz h + 1) (am_sz h + 1 + 1)) = am_sz h + 2 := rfl
  have uB : am_us (am_sfr (am_new (am_sfi (am_new h 29 4) 186 (am_sz h + 1) 0) 102 (m.length + 16)) 185 (am_sz h + 1) (am_sz h + 1 + 1)) = am_us h + 4 + (m.length + 16) := rfl
  have xb : xB (am_sfr (am_new (am_sfi (am_new h 29 4) 186 (am_sz h + 1) 0) 102 (m.length + 16)) 185 (am_sz h + 1) (am_sz h + 1 + 1)) (am_sz h + 1) [] := by
    refine ⟨?_, ?_, ?_, ?_, ?_, ?_, pf_nil, fun x hx => absurd hx (List.not_mem_nil)⟩
    · show am_ty (am_new (am_sfi (am_new h 29 4) 186 (am_sz h + 1) 0) 102 (m.length + 16)) (am_sz h + 1) = 29
      rw [x_tyn (by show am_sz h + 1 ≤ am_sz h + 1; omega)]
      exact ty0
    · rw [f185]
      exact tyA
    · show am_fi (am_new (am_sfi (am_new h 29 4) 186 (am_sz h + 1) 0) 102 (m.length + 16)) 186 (am_sz h + 1) = 0
      rw [x_fin (by show am_sz h + 1 ≤ am_sz h + 1; omega), x_fie]
    · show am_fi (am_new (am_sfi (am_new h 29 4) 186 (am_sz h + 1) 0) 102 (m.length + 16)) 188 (am_sz h + 1) = 0
      rw [x_fin (by show am_sz h + 1 ≤ am_sz h + 1; omega), x_fif (by decide), x_fin0 rfl]
    · rw [f185, lnA]
      exact ⟨by show (0 : Int) ≤ _; omega, by omega⟩
    · rw [f185, zB]
      exact ⟨by omega, by omega⟩
  have oss := fB.2.2.2 s v5.1
  have ovv := fB.2.2.2 _ v5.2
  have xs : xSl (am_sfr (am_new (am_sfi (am_new h 29 4) 186 (am_sz h + 1) 0) 102 (m.length + 16)) 185 (am_sz h + 1) (am_sz h + 1 + 1)) s m := by
    have oo := oss.2.2 (fun z => z)
    have pp := ovv.2.2 (fun z => z)
    refine ⟨⟨?_, ?_, ?_, ?_, ?_, ?_⟩, ?_, ?_⟩
    · rw [oss.1]; exact v1
    · rw [oo.2.1, ovv.1]; exact v2
    · rw [oo.1]; exact v3
    · rw [oo.2.1, ovv.2.1]; exact v4
    · rw [oo.2.1, zB]; exact ⟨by omega, by omega⟩
    · rw [oo.2.1, ovv.2.1, pp.2.2.1]; exact v6
    · rw [oo.2.1, ovv.2.1]; exact w2
    · rw [oo.2.1, pp.2.2.1]; exact w3
  have ae : am_fr (am_sfr (am_new (am_sfi (am_new h 29 4) 186 (am_sz h + 1) 0) 102 (m.length + 16)) 185 (am_sz h + 1) (am_sz h + 1 + 1)) 189 s = am_fr h 189 s := (oss.2.2 (fun z => z)).2.1 189
  generalize hh : am_sfr (am_new (am_sfi (am_new h 29 4) 186 (am_sz h + 1) 0) 102 (m.length + 16)) 185 (am_sz h + 1) (am_sz h + 1 + 1) = h2 at *
  refine am_en p_J1_append_4 rfl rfl (v_J1_append_4_0 ⟨xb.1, ?_⟩)
  refine am_en p_J1_append rfl rfl (v_J1_append_0 ⟨xb.1, ?_⟩)
  refine c_apps xb xs hm hs (by rw [ae, f185]; have := v5.2; omega) (by show (0 : Int) + _ ≤ _; omega) (by rw [f185, lnA]; omega) (fun h3 f3 xb3 z3 u3' l3 a3 => am_av (v_J1_append_3 (am_av (v_J1_append_4_3 (am_av (v_J0_init_2_32 (am_an (v_J1_init_2_3 ?_))))))))
  rw [f185] at f3 z3 u3' l3 a3
  rw [lnA] at z3 u3' l3
  have em : ([] : List Int) ++ m = m := rfl
  rw [em] at xb3
  have e00 : (([] : List Int).length : Int) = 0 := rfl
  rw [e00] at l3
  refine H h3 ?_ xb3 ?_ ?_ ?_
  · refine fx_trans2 fB f3 (fun q hq z => ?_)
    rcases z with z | z <;> omega
  · rcases a3 with e | e <;> omega
  · rcases l3 with e | e <;> omega
  · rcases l3 with e | e <;> omega
/-- one sign of a builder -/
theorem c_setc {b : Nat} {t : Int → Int} {n : Nat} {p v : Int} {d : Nat} (xb : xB h b (sgL t 0 n)) (hp : 0 ≤ p ∧ p < n) (hv : 0 ≤ v ∧ v ≤ 127) (H : ∀ h', fx (fun q => q = am_fr h 185 b) h h' → am_sz h' = am_sz h → am_us h' = am_us h → xB h' b (sgL (am_uz t p v) 0 n) → K (.inl none) h') : am_ev am_prog (d + 12) 278 [.inr (.inl b), .inl p, .inl v] h K := by
  obtain ⟨v1, v2, v3, v4, v5, v6, v7, v8⟩ := xb
  rw [sgL_l] at v4 v5
  refine am_en p_J1_setCharAt rfl rfl (v_J1_setCharAt_0 ⟨v1, ?_⟩)
  refine am_en p_J0_setCharAt rfl rfl (v_J0_setCharAt_0 ?_)
  rw [v3, v4, am_i2b0 hv]
  refine ⟨v1, fun z => absurd z (by omega), fun _ => ⟨fun _ => ⟨fun z => absurd rfl z, fun _ => ⟨fun z => absurd z (by omega), fun _ => ⟨⟨v2, by omega⟩, am_an (v_J1_setCharAt_4 ?_)⟩⟩⟩, fun z => absurd z (by omega)⟩⟩
  have fx1 : fx (fun q => q = am_fr h 185 b) h (am_sai h (am_fr h 185 b) p v) := fx_sai fx_refl (Or.inr rfl)
  refine H _ fx1 rfl rfl ⟨v1, v2, v3, by rw [sgL_l]; exact v4, by rw [sgL_l]; exact v5, v6, ?_, ?_⟩
  · refine sgL_p (fun k k1 k2 => ?_)
    have e : am_ai (am_sai h (am_fr h 185 b) p v) (am_fr h 185 b) = am_uz (am_ai h (am_fr h 185 b)) p v := x_aise
    have e0 : 0 + k = k := by omega
    show am_ai (am_sai h (am_fr h 185 b) p v) (am_fr h 185 b) k = _
    rw [e, e0]
    by_cases c : k = p
    · rw [c, am_uz_eq, am_uz_eq]
    · rw [am_uz_ne c, am_uz_ne c]
      have q := v7 k.toNat (by rw [sgL_l]; omega)
      have ek : ((k.toNat : Nat) : Int) = k := by omega
      rw [sgL_g n k.toNat (by omega), ek, e0] at q
      exact q
  · refine sgL_m n (fun k k1 k2 => ?_)
    have e0 : 0 + k = k := by omega
    rw [e0]
    by_cases c : k = p
    · rw [c, am_uz_eq]
      exact hv
    · rw [am_uz_ne c]
      have q := v8 (gt (sgL t 0 n) k.toNat) (gt_mem _ _ (by rw [sgL_l]; omega))
      have ek : ((k.toNat : Nat) : Int) = k := by omega
      rw [sgL_g n k.toNat (by omega), ek, e0] at q
      exact q
end
/-- what a slug reads is another -/
theorem Nt_rd {h h' : am_H} {L : am_Lb} {x P N : Nat} {S : am_G} {B : Int} {s p v : Int} {g z : Nat} (t : Nt h L x P N S B) (hs : 0 ≤ s ∧ s < S 0 0 4) (hp : 0 ≤ p ∧ p < (S 4 s 9)) (hn : (S 4 s 9) ≤ 420) (hg : g = am_ar h (am_fr h 194 (am_fr h 25 N)) s) (a : fx (fun q => q = g) h h') (h164 : am_fr h' 164 g = z) (hr : ∀ f, f ≠ 164 → am_fr h' f g = am_fr h f g) (hi : ∀ f, am_fi h' f g = am_fi h f g) (iz : iSc h' L z (S 4 s 9) (am_uz (fun j => (S 4 s (432 + (j)))) p v)) : Nt h' L x P N (u3 S 4 s (432 + p) v) B := by
  have x6 := t.2.2.2.1.2.2.2.2.2.1
  have xs := x6.2 s hs.1 hs.2
  rw [← hg] at xs
  have ea : ∀ o, o < 432 → ∀ q, u3 S 4 s (432 + p) v 4 q o = S 4 q o := fun o ho q => u3_no (by omega)
  have eo : ∀ c, c ≠ 4 → u3 S 4 s (432 + p) v c = S c := fun c hc => u3_r hc
  refine Nt_4 t (Int.le_refl _) a leL_refl (okLb_fx a t.1) (nd_one xs.1) (fun c c1 _ => eo c c1) (fun j _ => by rw [eo 0 (by decide)]) (crN_c2 (ea 7 (by omega)) (by rw [eo 0 (by decide)])) (fun i k _ _ _ _ => by rw [eo 0 (by decide)]; exact lsG_c2 (ea 1 (by omega)) (ea 2 (by omega)) _) ?_
  refine rG_one a leL_refl t.1 t.2.2.2.2.2.2 t.2.1.1 (s := s) (Int.le_refl _) (fun q hq e => ?_) (by rw [eo 0 (by decide)]) (eo 2 (by decide)) (fun q e => u3_rp e) x6 (fun _ _ => ?_)
  · rw [e, xs.1.2.2.2]
    exact ⟨rfl, rfl, rfl, rfl⟩
  · rw [← hg]
    obtain ⟨y1, y2, y3, y4, y5, y6, y7, y8, y9, y10, y11, y12⟩ := xs
    have im : ∀ q, q ≤ am_sz h → q = g → (L q).1 ≠ 0 ∧ ¬ imT (am_ty h q) := fun q hq e => by
      have ty := y1.1
      rw [e, y1.2.2.2]
      refine ⟨t.2.2.2.2.2.2, ?_⟩
      rw [ty]
      unfold imT
      split <;> omega
    unfold rSg
    rw [hi, hi, hi, hi, hi, hi, hi, hi, hi, hr 160 (by decide), h164, eo 2 (by decide), ea 0 (by omega), ea 1 (by omega), ea 2 (by omega), ea 8 (by omega), ea 6 (by omega), ea 5 (by omega), ea 4 (by omega), ea 9 (by omega), ea 10 (by omega), ea 11 (by omega), ea 7 (by omega)]
    refine ⟨(nd_fy a (leL_refl (L := L)) y1).1, y2, y3, y4, y5, y6, ?_, y8, y9, y10, ?_, y12⟩
    · have k := iSc_fx a (leL_refl (L := L)) im y7
      refine ⟨⟨k.1.1, k.1.2.1, fun j j1 j2 => ?_⟩, k.2⟩
      exact (k.1.2.2 j j1 j2).trans (ea (12 + j) (by omega) s).symm
    · refine ⟨⟨iz.1.1, iz.1.2.1, fun j j1 j2 => ?_⟩, iz.2⟩
      rw [iz.1.2.2 j j1 j2]
      show am_uz (fun j => (S 4 s (432 + (j)))) p v j = u3 S 4 s (432 + p) v 4 s (432 + j)
      by_cases c : j = p
      · rw [c, am_uz_eq, u3_eq]
      · rw [am_uz_ne c, u3_no (by omega)]
section
variable {K : am_K} {h : am_H}
theorem X_slip {L : am_Lb} {x P N : Nat} {S : am_G} {B : Int} {s k c : Int} {D : Nat} (hD : 90 ≤ D) (t : Nt h L x P N S B) (hx : am_ty h x = 1) (hN : am_fr h 1 x = N) (hC : okC S) (hz : x ≤ am_sz h) (hl : L x = (x, 0, 0, 0)) (hB : B ≤ 1000000) (hG : okG S) (hT : okTx S) (H0 : ¬ (0 ≤ s ∧ s < S 0 0 4) → XT h L x P N S B K 33) (H2 : 0 ≤ s ∧ s < S 0 0 4 → ∀ p, slP S s k p → (p = -1 ∨ ¬ (0 ≤ c ∧ c ≤ 25)) → XT h L x P N S B K 35) (H1 : 0 ≤ s ∧ s < S 0 0 4 → ∀ p, slP S s k p → p ≠ -1 → 0 ≤ c ∧ c ≤ 25 → XA h L x P N (u3 S 4 s (432 + p) (97 + c)) B K (am_b ((S 4 s (432 + (p))) ≠ 97 + c)) 910 2700) : am_ev am_prog D 163 [.inr (.inl x), .inl s, .inl k, .inl c] h K := by
  obtain ⟨g1, g2, g3, g4⟩ := G_fc t
  have c4 := hG.1
  obtain ⟨d, rfl⟩ : ∃ d, D = d + 13 := ⟨D - 13, by omega⟩
  refine am_en p_X1_slip rfl rfl ?_
  refine v_X1_slip_0 ?_
  rw [hN, g2]
  refine ⟨hx, g3, g1.1, by omega, fun g => ⟨⟨g1, by omega⟩, Or.inr (G_ty (g4 s (by omega) (by omega))), ?_⟩, fun g => XT_go t (H0 (by omega))⟩
  have gs : 0 ≤ s ∧ s < S 0 0 4 := by omega
  have HH2 := H2 gs
  have HH1 := H1 gs
  have q := g4 s gs.1 gs.2
  have bn := (hG.2 s gs.1 gs.2).2.2.2
  have y := q.2.2.2.2.2.2.2.2.2.2.1
  have ty := G_ty q
  have lnv : am_ln h (am_fr h 189 (am_fr h 164 (am_ar h (am_fr h 194 (am_fr h 25 N)) s))) = (S 4 s 9) := y.1.2.1
  have xsv := y.1.1
  have gz : (am_ar h (am_fr h 194 (am_fr h 25 N)) s) ≤ am_sz h := q.1.2.1
  have main : ∀ j, 0 ≤ j → j ≤ (S 4 s 9) → ∀ p o8, (p = -1 ∧ (∀ i, 0 ≤ i → i < j → 97 ≤ (S 4 s (432 + (i))) → (sg (slB S s) 0 (i).toNat) ≠ k)) ∨ ((0 ≤ p ∧ p < j) ∧ 97 ≤ (S 4 s (432 + (p))) ∧ (sg (slB S s) 0 (p).toNat) = k) → am_W m_X1_slip (am_ev am_prog (d + 12)) K 10 [some (.inr (.inl (x))), some (.inl (s)), some (.inl (k)), some (.inl (c)), some (.inr (.inl ((am_ar h (am_fr h 194 (am_fr h 25 N)) s)))), some (.inl (p)), some (.inl ((sg (slB S s) 0 (j).toNat))), some (.inl (j)), o8] [] h := by
    refine lp_z ?_ ?_
    · intro j j1 j2 hL p o8 hp
      have cb := slc_bd (S := S) (s := s) j1
      have fj : am_ai h (am_fr h 189 (am_fr h 164 (am_ar h (am_fr h 194 (am_fr h 25 N)) s))) j = (S 4 s (432 + (j))) := y.1.2.2 j j1 j2
      rw [sg_s j1] at hL
      refine v_X1_slip_10 ?_
      rw [lnv, fj]
      refine ⟨ty, xsv.1, xsv, fun z => absurd z (by omega), fun _ => ⟨by omega, fun l => ⟨by omega, ?_⟩, fun l => ⟨fun e => ⟨by omega, ?_⟩, fun e => ⟨by omega, ?_⟩⟩⟩⟩
      · have b0 : slB S s j = 0 := am_bf (by omega)
        rw [b0] at hL
        refine hL p _ (hp.elim (fun w => Or.inl ⟨w.1, fun i i1 i2 fi => ?_⟩) (fun w => Or.inr ⟨by omega, w.2⟩))
        by_cases c' : i = j
        · rw [c'] at fi
          omega
        · exact w.2 i i1 (by omega) fi
      · have b1 : slB S s j = 1 := am_bt l
        rw [b1] at hL
        refine hL p _ (hp.elim (fun w => Or.inl ⟨w.1, fun i i1 i2 fi => ?_⟩) (fun w => Or.inr ⟨by omega, w.2⟩))
        by_cases c' : i = j
        · rw [c']
          exact e
        · exact w.2 i i1 (by omega) fi
      · have b1 : slB S s j = 1 := am_bt l
        rw [b1] at hL
        exact hL j _ (Or.inr ⟨by omega, l, e⟩)
    · intro p o8 hp
      have sp : slP S s k p := hp.elim (fun w => Or.inl w) (fun w => Or.inr w)
      refine v_X1_slip_10 ?_
      rw [lnv]
      refine ⟨ty, xsv.1, xsv, fun _ => ⟨fun z => XT_go t (HH2 p sp (Or.inl (by omega))), fun z => ⟨fun z2 => XT_go t (HH2 p sp (Or.inr z2)), fun z2 => ⟨by omega, by omega, ?_⟩⟩⟩, fun z => absurd z (by omega)⟩
      have fp : am_ai h (am_fr h 189 (am_fr h 164 (am_ar h (am_fr h 194 (am_fr h 25 N)) s))) p = (S 4 s (432 + (p))) := y.1.2.2 p (by omega) (by omega)
      have HK := HH1 p sp (by omega) z2
      rw [fp, am_i2c0 (by omega)]
      refine ⟨fun e => ⟨gz, ?_⟩, fun e => ?_⟩
      · rw [am_bt e] at HK
        have xl := xSc_l y.1 bn.1
        have sn0 : (am_fr h 164 (am_ar h (am_fr h 194 (am_fr h 25 N)) s)) ≠ 0 := fun e0 => by
          have t0 := t.1.1
          have := xsv.1
          rw [e0, t0] at this
          omega
        have ms : ∀ w, w ∈ sgL (fun j => (S 4 s (432 + (j)))) 0 ((S 4 s 9)).toNat → 0 ≤ w ∧ w ≤ 127 := sgL_m _ (fun i i1 i2 => by
          have := hT s (0 + i) gs.1 gs.2 (by omega) (by omega)
          show 0 ≤ (S 4 s (432 + (0 + i))) ∧ (S 4 s (432 + (0 + i))) ≤ 127
          omega)
        refine c_sbS xl ms sn0 (by rw [sgL_l]; omega) (fun h2 f2 xb2 a2 z2' u2 => am_an (v_X1_slip_71 ⟨xb2.1, ?_⟩))
        refine c_setc (v := 97 + c) xb2 (by omega) (by omega) (fun h3 f3 z3 u3' xb3 => am_an (v_X1_slip_76 ⟨xb3.1, ?_⟩))
        refine c_toS xb3 (by rw [sgL_l]; omega) (fun h4 f4 z4 u4 xs4 ty4 e189 => am_av (v_X1_slip_79 ?_))
        rw [sgL_l] at u4
        have f04 : fx (fun _ => False) h h4 := fx_trans2 (fx_trans2 f2 f3 (fun q hq e => absurd hq (by omega))) f4 (fun q _ e => e.elim)
        have t4 := Nt_fx0 f04 t
        have o4 := L_old f04 t.2.2.2.1.1.1.2.1 g1
        have q4 := (G_fc t4).2.2.2 s gs.1 gs.2
        have eg : am_ar h4 (am_fr h4 194 (am_fr h4 25 N)) s = (am_ar h (am_fr h 194 (am_fr h 25 N)) s) := by
          rw [o4.1, o4.2.1, o4.2.2]
        rw [eg] at q4
        refine ⟨G_ty q4, HK _ L ?_ ?_⟩
        · have f5 : fx (fun q => q = (am_ar h (am_fr h 194 (am_fr h 25 N)) s)) h4 (am_sfr h4 164 (am_ar h (am_fr h 194 (am_fr h 25 N)) s) (am_sz h3 + 1)) := fx_sfr fx_refl (Or.inr rfl)
          have sc := sgL_c xs4
          have en : ((((S 4 s 9)).toNat : Nat) : Int) = (S 4 s 9) := by omega
          rw [en] at sc
          have nv : am_fr h4 189 (am_sz h3 + 1) ≠ (am_ar h (am_fr h 194 (am_fr h 25 N)) s) := by
            rw [e189]
            have := f2.1
            have := f3.1
            omega
          have ns : am_sz h3 + 1 ≠ (am_ar h (am_fr h 194 (am_fr h 25 N)) s) := by
            have := f2.1
            have := f3.1
            omega
          have k5 := xSc_fx0 f5 ns nv sc
          refine Nt_rd (z := am_sz h3 + 1) t4 gs (by omega) bn.2 eg.symm f5 x_fre (fun f hf => x_frf hf) (fun _ => rfl) ⟨⟨k5.1.1, k5.1.2.1, fun j j1 j2 => ?_⟩, ?_⟩
          · rw [k5.1.2.2 j j1 j2]
            have e0 : 0 + j = j := by omega
            show am_uz (fun j => (S 4 s (432 + (j)))) p (97 + c) (0 + j) = _
            rw [e0]
          · rw [k5.2, e189]
            exact t.1.2.2 _ (by have := f2.1; have := f3.1; omega)
        · have f5 : fx (fun q => q = (am_ar h (am_fr h 194 (am_fr h 25 N)) s)) h (am_sfr h4 164 (am_ar h (am_fr h 194 (am_fr h 25 N)) s) (am_sz h3 + 1)) := fx_sfr (fx_sub f04 (fun q _ z => z.elim)) (Or.inr rfl)
          exact Out_G t.1 f5 (nd_one q.1) (by show am_sz h4 ≤ _; omega) (by show am_us h4 ≤ _; omega)
      · rw [am_bf (fun w => w e)] at HK
        have es : u3 S 4 s (432 + p) (97 + c) = S := u3_id e
        rw [es] at HK
        exact HK h L t (Out_fx0 t.1 fx_refl (by omega) (by omega))
  exact main 0 (by omega) bn.1 (-1) none (Or.inl ⟨rfl, fun i i1 i2 => absurd i1 (by omega)⟩)
end
