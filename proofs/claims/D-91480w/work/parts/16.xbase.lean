set_option maxRecDepth 100000
/-! the heap: what is read behind a change -/
theorem x_sz_sfi {h : am_H} {f r y : Nat} {k x : Int} {g : Int → Int} {g2 : Int → Nat} : am_sz (am_sfi h f r x) = am_sz h := rfl
theorem x_us_sfi {h : am_H} {f r y : Nat} {k x : Int} {g : Int → Int} {g2 : Int → Nat} : am_us (am_sfi h f r x) = am_us h := rfl
theorem x_cs_sfi {h : am_H} {f r y : Nat} {k x : Int} {g : Int → Int} {g2 : Int → Nat} : am_cs (am_sfi h f r x) = am_cs h := rfl
theorem x_ty_sfi {h : am_H} {f r y : Nat} {k x : Int} {g : Int → Int} {g2 : Int → Nat} : am_ty (am_sfi h f r x) = am_ty h := rfl
theorem x_ln_sfi {h : am_H} {f r y : Nat} {k x : Int} {g : Int → Int} {g2 : Int → Nat} : am_ln (am_sfi h f r x) = am_ln h := rfl
theorem x_fr_sfi {h : am_H} {f r y : Nat} {k x : Int} {g : Int → Int} {g2 : Int → Nat} : am_fr (am_sfi h f r x) = am_fr h := rfl
theorem x_ai_sfi {h : am_H} {f r y : Nat} {k x : Int} {g : Int → Int} {g2 : Int → Nat} : am_ai (am_sfi h f r x) = am_ai h := rfl
theorem x_ar_sfi {h : am_H} {f r y : Nat} {k x : Int} {g : Int → Int} {g2 : Int → Nat} : am_ar (am_sfi h f r x) = am_ar h := rfl
theorem x_sz_sfr {h : am_H} {f r y : Nat} {k x : Int} {g : Int → Int} {g2 : Int → Nat} : am_sz (am_sfr h f r y) = am_sz h := rfl
theorem x_us_sfr {h : am_H} {f r y : Nat} {k x : Int} {g : Int → Int} {g2 : Int → Nat} : am_us (am_sfr h f r y) = am_us h := rfl
theorem x_cs_sfr {h : am_H} {f r y : Nat} {k x : Int} {g : Int → Int} {g2 : Int → Nat} : am_cs (am_sfr h f r y) = am_cs h := rfl
theorem x_ty_sfr {h : am_H} {f r y : Nat} {k x : Int} {g : Int → Int} {g2 : Int → Nat} : am_ty (am_sfr h f r y) = am_ty h := rfl
theorem x_ln_sfr {h : am_H} {f r y : Nat} {k x : Int} {g : Int → Int} {g2 : Int → Nat} : am_ln (am_sfr h f r y) = am_ln h := rfl
theorem x_fi_sfr {h : am_H} {f r y : Nat} {k x : Int} {g : Int → Int} {g2 : Int → Nat} : am_fi (am_sfr h f r y) = am_fi h := rfl
theorem x_ai_sfr {h : am_H} {f r y : Nat} {k x : Int} {g : Int → Int} {g2 : Int → Nat} : am_ai (am_sfr h f r y) = am_ai h := rfl
theorem x_ar_sfr {h : am_H} {f r y : Nat} {k x : Int} {g : Int → Int} {g2 : Int → Nat} : am_ar (am_sfr h f r y) = am_ar h := rfl
theorem x_sz_sai {h : am_H} {f r y : Nat} {k x : Int} {g : Int → Int} {g2 : Int → Nat} : am_sz (am_sai h r k x) = am_sz h := rfl
theorem x_us_sai {h : am_H} {f r y : Nat} {k x : Int} {g : Int → Int} {g2 : Int → Nat} : am_us (am_sai h r k x) = am_us h := rfl
theorem x_cs_sai {h : am_H} {f r y : Nat} {k x : Int} {g : Int → Int} {g2 : Int → Nat} : am_cs (am_sai h r k x) = am_cs h := rfl
theorem x_ty_sai {h : am_H} {f r y : Nat} {k x : Int} {g : Int → Int} {g2 : Int → Nat} : am_ty (am_sai h r k x) = am_ty h := rfl
theorem x_ln_sai {h : am_H} {f r y : Nat} {k x : Int} {g : Int → Int} {g2 : Int → Nat} : am_ln (am_sai h r k x) = am_ln h := rfl
theorem x_fi_sai {h : am_H} {f r y : Nat} {k x : Int} {g : Int → Int} {g2 : Int → Nat} : am_fi (am_sai h r k x) = am_fi h := rfl
theorem x_fr_sai {h : am_H} {f r y : Nat} {k x : Int} {g : Int → Int} {g2 : Int → Nat} : am_fr (am_sai h r k x) = am_fr h := rfl
theorem x_ar_sai {h : am_H} {f r y : Nat} {k x : Int} {g : Int → Int} {g2 : Int → Nat} : am_ar (am_sai h r k x) = am_ar h := rfl
theorem x_sz_sar {h : am_H} {f r y : Nat} {k x : Int} {g : Int → Int} {g2 : Int → Nat} : am_sz (am_sar h r k y) = am_sz h := rfl
theorem x_us_sar {h : am_H} {f r y : Nat} {k x : Int} {g : Int → Int} {g2 : Int → Nat} : am_us (am_sar h r k y) = am_us h := rfl
theorem x_cs_sar {h : am_H} {f r y : Nat} {k x : Int} {g : Int → Int} {g2 : Int → Nat} : am_cs (am_sar h r k y) = am_cs h := rfl
theorem x_ty_sar {h : am_H} {f r y : Nat} {k x : Int} {g : Int → Int} {g2 : Int → Nat} : am_ty (am_sar h r k y) = am_ty h := rfl
theorem x_ln_sar {h : am_H} {f r y : Nat} {k x : Int} {g : Int → Int} {g2 : Int → Nat} : am_ln (am_sar h r k y) = am_ln h := rfl
theorem x_fi_sar {h : am_H} {f r y : Nat} {k x : Int} {g : Int → Int} {g2 : Int → Nat} : am_fi (am_sar h r k y) = am_fi h := rfl
theorem x_fr_sar {h : am_H} {f r y : Nat} {k x : Int} {g : Int → Int} {g2 : Int → Nat} : am_fr (am_sar h r k y) = am_fr h := rfl
theorem x_ai_sar {h : am_H} {f r y : Nat} {k x : Int} {g : Int → Int} {g2 : Int → Nat} : am_ai (am_sar h r k y) = am_ai h := rfl
theorem x_sz_wai {h : am_H} {f r y : Nat} {k x : Int} {g : Int → Int} {g2 : Int → Nat} : am_sz (am_wai h r g) = am_sz h := rfl
theorem x_us_wai {h : am_H} {f r y : Nat} {k x : Int} {g : Int → Int} {g2 : Int → Nat} : am_us (am_wai h r g) = am_us h := rfl
theorem x_cs_wai {h : am_H} {f r y : Nat} {k x : Int} {g : Int → Int} {g2 : Int → Nat} : am_cs (am_wai h r g) = am_cs h := rfl
theorem x_ty_wai {h : am_H} {f r y : Nat} {k x : Int} {g : Int → Int} {g2 : Int → Nat} : am_ty (am_wai h r g) = am_ty h := rfl
theorem x_ln_wai {h : am_H} {f r y : Nat} {k x : Int} {g : Int → Int} {g2 : Int → Nat} : am_ln (am_wai h r g) = am_ln h := rfl
theorem x_fi_wai {h : am_H} {f r y : Nat} {k x : Int} {g : Int → Int} {g2 : Int → Nat} : am_fi (am_wai h r g) = am_fi h := rfl
theorem x_fr_wai {h : am_H} {f r y : Nat} {k x : Int} {g : Int → Int} {g2 : Int → Nat} : am_fr (am_wai h r g) = am_fr h := rfl
theorem x_ar_wai {h : am_H} {f r y : Nat} {k x : Int} {g : Int → Int} {g2 : Int → Nat} : am_ar (am_wai h r g) = am_ar h := rfl
theorem x_sz_war {h : am_H} {f r y : Nat} {k x : Int} {g : Int → Int} {g2 : Int → Nat} : am_sz (am_war h r g2) = am_sz h := rfl
theorem x_us_war {h : am_H} {f r y : Nat} {k x : Int} {g : Int → Int} {g2 : Int → Nat} : am_us (am_war h r g2) = am_us h := rfl
theorem x_cs_war {h : am_H} {f r y : Nat} {k x : Int} {g : Int → Int} {g2 : Int → Nat} : am_cs (am_war h r g2) = am_cs h := rfl
theorem x_ty_war {h : am_H} {f r y : Nat} {k x : Int} {g : Int → Int} {g2 : Int → Nat} : am_ty (am_war h r g2) = am_ty h := rfl
theorem x_ln_war {h : am_H} {f r y : Nat} {k x : Int} {g : Int → Int} {g2 : Int → Nat} : am_ln (am_war h r g2) = am_ln h := rfl
theorem x_fi_war {h : am_H} {f r y : Nat} {k x : Int} {g : Int → Int} {g2 : Int → Nat} : am_fi (am_war h r g2) = am_fi h := rfl
theorem x_fr_war {h : am_H} {f r y : Nat} {k x : Int} {g : Int → Int} {g2 : Int → Nat} : am_fr (am_war h r g2) = am_fr h := rfl
theorem x_ai_war {h : am_H} {f r y : Nat} {k x : Int} {g : Int → Int} {g2 : Int → Nat} : am_ai (am_war h r g2) = am_ai h := rfl
theorem x_sz_new {h : am_H} {t n : Nat} : am_sz (am_new h t n) = am_sz h + 1 := rfl
theorem x_us_new {h : am_H} {t n : Nat} : am_us (am_new h t n) = am_us h + n := rfl
theorem x_cs_new {h : am_H} {t n : Nat} : am_cs (am_new h t n) = am_cs h := rfl
theorem x_fie {h : am_H} {f r : Nat} {x : Int} : am_fi (am_sfi h f r x) f r = x := by
  show am_up _ f (am_up _ r x) f r = x
  simp only [am_up, if_true]
theorem x_fif {h : am_H} {f f' r q : Nat} {x : Int} (e : f' ≠ f) : am_fi (am_sfi h f r x) f' q = am_fi h f' q := by
  show am_up _ f (am_up _ r x) f' q = _
  unfold am_up
  rw [if_neg e]
  rfl
theorem x_fir {h : am_H} {f r q : Nat} {x : Int} (e : q ≠ r) : am_fi (am_sfi h f r x) f q = am_fi h f q := by
  show am_up _ f (am_up _ r x) f q = _
  unfold am_up
  rw [if_pos rfl, if_neg e]
  rfl
theorem x_fin0 {h : am_H} {t n f q : Nat} (e : q = am_sz h + 1) : am_fi (am_new h t n) f q = 0 := by
  show am_up _ (h.1 + 1) 0 q = 0
  exact if_pos e
theorem x_fin {h : am_H} {t n f q : Nat} (e : q ≤ am_sz h) : am_fi (am_new h t n) f q = am_fi h f q := by
  show am_up _ (h.1 + 1) 0 q = _
  have e2 : q ≤ h.1 := e
  exact if_neg (by omega)
theorem x_fre {h : am_H} {f r : Nat} {x : Nat} : am_fr (am_sfr h f r x) f r = x := by
  show am_up _ f (am_up _ r x) f r = x
  simp only [am_up, if_true]
theorem x_frf {h : am_H} {f f' r q : Nat} {x : Nat} (e : f' ≠ f) : am_fr (am_sfr h f r x) f' q = am_fr h f' q := by
  show am_up _ f (am_up _ r x) f' q = _
  unfold am_up
  rw [if_neg e]
  rfl
theorem x_frr {h : am_H} {f r q : Nat} {x : Nat} (e : q ≠ r) : am_fr (am_sfr h f r x) f q = am_fr h f q := by
  show am_up _ f (am_up _ r x) f q = _
  unfold am_up
  rw [if_pos rfl, if_neg e]
  rfl
theorem x_frn0 {h : am_H} {t n f q : Nat} (e : q = am_sz h + 1) : am_fr (am_new h t n) f q = 0 := by
  show am_up _ (h.1 + 1) 0 q = 0
  exact if_pos e
theorem x_frn {h : am_H} {t n f q : Nat} (e : q ≤ am_sz h) : am_fr (am_new h t n) f q = am_fr h f q := by
  show am_up _ (h.1 + 1) 0 q = _
  have e2 : q ≤ h.1 := e
  exact if_neg (by omega)
theorem x_aiwe {h : am_H} {r : Nat} {g : Int → Int} : am_ai (am_wai h r g) r = g := if_pos rfl
theorem x_air {h : am_H} {r q : Nat} {g : Int → Int} (e : q ≠ r) : am_ai (am_wai h r g) q = am_ai h q := if_neg e
theorem x_aise {h : am_H} {r : Nat} {k : Int} {x : Int} : am_ai (am_sai h r k x) r = am_uz (am_ai h r) k x := if_pos rfl
theorem x_ais {h : am_H} {r q : Nat} {k : Int} {x : Int} (e : q ≠ r) : am_ai (am_sai h r k x) q = am_ai h q := if_neg e
theorem x_ain0 {h : am_H} {t n q : Nat} (e : q = am_sz h + 1) : am_ai (am_new h t n) q = fun _ => 0 := if_pos e
theorem x_ain {h : am_H} {t n q : Nat} (e : q ≤ am_sz h) : am_ai (am_new h t n) q = am_ai h q := by
  have e2 : q ≤ h.1 := e
  exact if_neg (by omega)
theorem x_arwe {h : am_H} {r : Nat} {g : Int → Nat} : am_ar (am_war h r g) r = g := if_pos rfl
theorem x_arr {h : am_H} {r q : Nat} {g : Int → Nat} (e : q ≠ r) : am_ar (am_war h r g) q = am_ar h q := if_neg e
theorem x_arse {h : am_H} {r : Nat} {k : Int} {x : Nat} : am_ar (am_sar h r k x) r = am_uz (am_ar h r) k x := if_pos rfl
theorem x_ars {h : am_H} {r q : Nat} {k : Int} {x : Nat} (e : q ≠ r) : am_ar (am_sar h r k x) q = am_ar h q := if_neg e
theorem x_arn0 {h : am_H} {t n q : Nat} (e : q = am_sz h + 1) : am_ar (am_new h t n) q = fun _ => 0 := if_pos e
theorem x_arn {h : am_H} {t n q : Nat} (e : q ≤ am_sz h) : am_ar (am_new h t n) q = am_ar h q := by
  have e2 : q ≤ h.1 := e
  exact if_neg (by omega)
theorem x_tyn0 {h : am_H} {t n q : Nat} (e : q = am_sz h + 1) : am_ty (am_new h t n) q = t := if_pos e
theorem x_tyn {h : am_H} {t n q : Nat} (e : q ≤ am_sz h) : am_ty (am_new h t n) q = am_ty h q := by
  have e2 : q ≤ h.1 := e
  exact if_neg (by omega)
theorem x_lnn0 {h : am_H} {t n q : Nat} (e : q = am_sz h + 1) : am_ln (am_new h t n) q = (n : Int) := if_pos e
theorem x_lnn {h : am_H} {t n q : Nat} (e : q ≤ am_sz h) : am_ln (am_new h t n) q = am_ln h q := by
  have e2 : q ≤ h.1 := e
  exact if_neg (by omega)
theorem am_hx {M : am_M} {Q : am_K} {X : am_X} {i x : Nat} {ls : am_L} {h : am_H} (e : M.2 = []) (H : Q (.inr x) h) : am_hand M Q X i x ls h := by
  unfold am_hand
  rw [e]
  exact ⟨rfl, H⟩
theorem am_ax {M : am_M} {E : am_E} {Q : am_K} {X : am_X} {i x : Nat} {ls : am_L} {st : am_S} {h : am_H} (e : M.2 = []) (H : Q (.inr x) h) : am_aft (am_hand M Q X i) (am_W M E Q) i ls st (.inr x) h := am_hx e H
theorem am_hxn {M : am_M} {Q : am_K} {X : am_X} {i x : Nat} {ls : am_L} {h : am_H} (e1 : am_find M.2 i (am_ty h x) = none) (e2 : am_cov M.2 i = false) (H : Q (.inr x) h) : am_hand M Q X i x ls h := by
  unfold am_hand
  rw [e1]
  exact ⟨e2, H⟩
theorem am_axn {M : am_M} {E : am_E} {Q : am_K} {X : am_X} {i x : Nat} {ls : am_L} {st : am_S} {h : am_H} (e1 : am_find M.2 i (am_ty h x) = none) (e2 : am_cov M.2 i = false) (H : Q (.inr x) h) : am_aft (am_hand M Q X i) (am_W M E Q) i ls st (.inr x) h := am_hxn e1 e2 H
/-- a handler takes it -/
theorem am_ah {M : am_M} {E : am_E} {Q : am_K} {i x j : Nat} {ls : am_L} {st : am_S} {h : am_H} (e : am_find M.2 i (am_ty h x) = some j) (H : am_W M E Q j ls [.inr (.inl x)] h) : am_aft (am_hand M Q (am_W M E Q) i) (am_W M E Q) i ls st (.inr x) h := by
  show am_hand M Q (am_W M E Q) i x ls h
  unfold am_hand
  rw [e]
  exact H
theorem c_in {K : am_K} {d : Nat} {h : am_H} {v lo hi : Int} (H : K (.inl (some (.inl (am_b (lo ≤ v ∧ v ≤ hi))))) h) : am_ev am_prog (d + 1) 219 [.inl v, .inl lo, .inl hi] h K := by
  refine am_en p_X1_in rfl rfl ?_
  refine r_X1_in_0 ⟨fun c => ?_, fun c => ?_⟩
  · refine r_X1_in_8 (r_X1_in_9 ⟨Or.inl rfl, ?_⟩)
    rw [am_bf (by omega)] at H
    exact H
  · refine r_X1_in_3 ⟨fun c => ?_, fun c => ?_⟩
    · refine r_X1_in_8 (r_X1_in_9 ⟨Or.inl rfl, ?_⟩)
      rw [am_bf (by omega)] at H
      exact H
    · refine r_X1_in_6 (r_X1_in_9 ⟨Or.inr rfl, ?_⟩)
      rw [am_bt (by omega)] at H
      exact H
