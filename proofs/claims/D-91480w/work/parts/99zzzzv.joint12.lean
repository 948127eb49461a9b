set_option maxRecDepth 100000
section
variable {h h' : am_H} {L L' : am_Lb} {x P r o s : Nat} {sc : Int → Int} {ns : Int} {N I N' I' : Nat} {S S' m SI : am_G} {B B' BI : Int} {t t' : Int → Int} {n n' fl fl' : Int} {V V' : Nat → Int → Int} {W W' : Nat → Int} {Z U c : Nat}
theorem J_fault {K : am_K} {D : Nat} (hD : 110 ≤ D) (hc : c ≤ 64) (js : JS x P r o s sc ns Z U c h) (H : ∀ kk h1, JG x P r o s sc ns Z U c 13 [] (PA kk) h1 → K (.inl (some (.inl (kk)))) h1) : am_ev am_prog D 7 [.inr (.inl x)] h K := by
  obtain ⟨L, N, I, S, SI, B, BI, t, n, V, W, u⟩ := js
  have j1 := u.1.1
  have nt := u.1.2.1
  have oi := u.2.1
  have hC := oi.1.1.1
  refine X_fault (L := L) (x := x) (P := P) (N := N) (S := S) (B := B) (by omega) j1.1.1 ?_
  rw [u.1.2.2.2.2.2.1]
  exact JE_s u nt (Out_fx0 nt.1 fx_refl (by omega) (by omega)) (dz := 0) (du := 0) (by decide) (by decide) (by omega) oi (by omega) (fun b K2 D hD hm => M_fault hD hm) H
theorem J_feed {K : am_K} {a1 a2 a3 a4 a5 : Int} {D : Nat} (hD : 110 ≤ D) (hc : c ≤ 64) (js : JS x P r o s sc ns Z U c h) (H : ∀ kk h1, JG x P r o s sc ns Z U c 97 [.inl a1, .inl a2, .inl a3, .inl a4, .inl a5] (PA kk) h1 → K (.inl (some (.inl (kk)))) h1) : am_ev am_prog D 80 [.inr (.inl x), .inl a1, .inl a2, .inl a3, .inl a4, .inl a5] h K := by
  obtain ⟨L, N, I, S, SI, B, BI, t, n, V, W, u⟩ := js
  have j1 := u.1.1
  have nt := u.1.2.1
  have oi := u.2.1
  have hC := oi.1.1.1
  have tpx := u.1.2.2.2.2.1
  have tpv := u.2.2.1
  have okv := u.2.2.2.1
  refine X_feed (by omega) nt j1.1.1 j1.1.2.1 j1.1.2.2 tpx (fun g => ?_) (fun g h' nt' ox tp' f5 => H _ _ ?_)
  · exact JE_s u nt (Out_fx0 nt.1 fx_refl (by omega) (by omega)) (dz := 0) (du := 0) (by decide) (by decide) (by omega) oi (by omega) (fun b K2 D hD hm => M_feed hD tpv.2 tpx.2.2.2.1 tpv.1 (fun _ => hm) (fun y => absurd y (by omega))) H
  · obtain ⟨j, _, tp, okv, ⟨b1, b2, b3⟩, z1, z2⟩ := u
    have o3 := ox.2.2.1
    have jh := JH_XF j ox nt' tp' (f5.trans j.2.2.2.2.2.1)
    refine JG_m (RR := fun a b e => a = S ∧ b = 0 ∧ e = .inl (some (.inl (n + 20)))) (B' := B) (BI := BI) (SI := SI) (t := tFd t n a1 a2 a3 a4 a5) (n := n + 20) (fl := W 47) jh.1 jh.2.2.1 (fun a b e g => ?_) (by omega) (by omega) (by omega) (by omega) (fun K2 D hD H => M_feed hD tpv.2 tpx.2.2.2.1 tpv.1 (fun y => absurd y (by omega)) (fun _ V' W' v4 t4 w38 w44 wo => H S 0 _ V' W' ⟨rfl, rfl, rfl⟩ ⟨v4 2 (by decide), t4, ?_, wo 42 (by decide) (by decide), w44, wo 47 (by decide) (by decide)⟩ w38))
    · obtain ⟨g1, g2, g3⟩ := g
      subst g1 g2 g3
      exact ⟨jh, oi, by omega, fun h2 _ _ => rfl⟩
    · unfold okVs at okv ⊢
      rw [v4 5 (by decide), v4 6 (by decide), v4 7 (by decide)]
      exact okv
theorem J_end {K : am_K} {a1 : Int} {D : Nat} (hD : 110 ≤ D) (hc : c ≤ 64) (js : JS x P r o s sc ns Z U c h) (H : ∀ kk h1, JG x P r o s sc ns Z U c 41 [.inl a1] (PA kk) h1 → K (.inl (some (.inl (kk)))) h1) : am_ev am_prog D 16 [.inr (.inl x), .inl a1] h K := by
  obtain ⟨L, N, I, S, SI, B, BI, t, n, V, W, u⟩ := js
  have j1 := u.1.1
  have nt := u.1.2.1
  have oi := u.2.1
  have hC := oi.1.1.1
  have tpx := u.1.2.2.2.2.1
  obtain rfl := u.2.2.1.2
  have tpv := u.2.2.1
  refine X_end (by omega) nt j1.1.1 j1.1.2.1 j1.1.2.2 tpx (fun g => ?_) (fun g h' nt' ox tp' f5 => H _ _ ?_)
  · exact JE_s u nt (Out_fx0 nt.1 fx_refl (by omega) (by omega)) (dz := 0) (du := 0) (by decide) (by decide) (by omega) oi (by omega) (fun b K2 D hD hm => M_end hD (fun _ => hm) (fun y => absurd y g)) H
  · obtain ⟨j, _, tp, okv, ⟨b1, b2, b3⟩, z1, z2⟩ := u
    have o3 := ox.2.2.1
    have jh := JH_XF j ox nt' tp' (f5.trans j.2.2.2.2.2.1)
    refine JG_m (RR := fun a b e => a = S ∧ b = 0 ∧ e = .inl (some (.inl (1)))) (B' := B) (BI := BI) (SI := SI) (t := t) (n := a1) (fl := W 47) jh.1 jh.2.2.1 (fun a b e g => ?_) (by omega) (by omega) (by omega) (by omega) (fun K2 D hD H => M_end hD (fun y => absurd g y) (fun _ V' W' v4 w38 w44 wo => H S 0 _ V' W' ⟨rfl, rfl, rfl⟩ ⟨by rw [v4], ?_, by rw [v4]; exact okv, wo 42 (by decide) (by decide), w44, wo 47 (by decide) (by decide)⟩ w38))
    · obtain ⟨g1, g2, g3⟩ := g
      subst g1 g2 g3
      exact ⟨jh, oi, by omega, fun h2 _ _ => rfl⟩
    · rw [v4]
      exact fun j a b => tpv.1 j a (by omega)
/-- the room's field has changed: a new copy of a night -/
theorem JB_2 (j : JB x P r o s sc ns L N I h) (f : fx (fun q => q = x) h h') (le : leL h L L') (nl : ∀ q, am_sz h < q → (L' q).1 = 0 ∨ (L' q).1 = am_sz h + 1) (hs : am_sz h < am_sz h') (f0 : am_fr h' 0 x = P) (f1 : am_fr h' 1 x = N') (f2 : am_fr h' 2 x = I') (hN : N' ≤ am_sz h' ∧ N' ≠ 0 ∧ x ≠ N' ∧ r ≠ N' ∧ o ≠ N') (hI : I' ≠ x ∧ I' ≠ r ∧ I' ≠ o ∧ I' ≠ N') : JB x P r o s sc ns L' N' I' h' := by
  obtain ⟨⟨x1, x2, x3⟩, ⟨p1, p2, p3⟩, ⟨r1, r2⟩, ⟨q1, q2, q3, q4⟩, ⟨s1, s2, s3, s4, s5⟩, ⟨w1, w2⟩, ⟨n1, n2, n3, n4⟩, ⟨d1, d2, d3, d4, d5, d6⟩, i1⟩ := j
  have kx := f.2.2.2 x x2
  have ko := f.2.2.2 o q3
  have ks := f.2.2.2 s s3
  have us := ks.2.2 (fun e => by rw [e, x3] at s4; exact n1 s4)
  refine ⟨⟨kx.1.trans x1, by omega, (le x x2).trans x3⟩, ⟨f0, f1, f2⟩, ⟨by omega, fun j hj => by rw [le (r + j) (by omega)]; exact r2 j hj⟩, ⟨ko.1.trans q1, ko.2.1.trans q2, by omega, by rw [le o q3]; exact q4⟩, ⟨ks.1.trans s1, ks.2.1.trans s2, by omega, by rw [le s s3]; exact s4, us.2.2.1.trans s5⟩, ⟨fun q => ?_, hN.1⟩, ⟨n1, n2, n3, hN.2.1⟩, ⟨d1, d2, hN.2.2.1, d4, hN.2.2.2.1, hN.2.2.2.2⟩, hI⟩
  by_cases c : q ≤ am_sz h
  · rw [le q c]
    have := w1 q
    omega
  · rcases nl q (by omega) with e | e <;> omega
theorem TpX_2 (f : fx (fun q => q = x) h h') (le : leL h L L') (hl : L x = (x, 0, 0, 0)) (f3 : am_fr h' 3 x = am_fr h 3 x) (f4 : am_fi h' 4 x = am_fi h 4 x) (tp : TpX h L x t n) : TpX h' L' x t n := by
  obtain ⟨t1, t2, t3, t4, t5⟩ := tp
  have ne : ¬ (am_fr h 3 x = x) := fun e => by
    have l := t2.2.2.2
    rw [e, hl] at l
    injection l with _ l
    injection l with l _
    exact absurd l (by decide)
  obtain ⟨n1, n2, n3, n4, n5, n6⟩ := nd_fx f le t2 ne
  unfold TpX
  rw [f3, n5]
  exact ⟨f4.trans t1, n1, n2.trans t3, t4, t5⟩
/-- all of it, the image not yet -/
theorem JH_2 (j1 : JB x P r o s sc ns L N I h) (j2 : Nt h L x P N S B) (j3 : MoC h r (ms m) V W) (j5 : TpX h L x t n) (j6 : am_fi h 5 x = fl) (j7 : WD h L) (ji : (W' 42 = 0 ∧ I = 0) ∨ (W' 42 = 1 ∧ I ≠ 0 ∧ Rep h L I P SI BI ∧ okI SI ∧ ∀ k, 0 ≤ k → k < 337220 → V' 2 k = ms SI k)) : JH x P r o s sc ns L N I S S' SI B BI t n fl V' W' (mo h r (ms S') V' W') := by
  have e := MoC_id j3
  have f := mo_fx (b := h) (r := r) (m := ms m) (m' := ms S') (V := V) (V' := V') (W := W) (W' := W')
  rw [← e] at f
  have j1' := j1
  rw [e] at j1'
  obtain ⟨jb, fi⟩ := JB_M (m' := ms S') (V' := V') (W' := W') j1'
  rw [← e] at fi
  obtain ⟨⟨x1, x2, x3⟩, _, ⟨r1, r2⟩, _, _, _, ⟨n1, n2, n3, n4⟩, ⟨d1, d2, d3, d4, d5, d6⟩, ⟨i1, i2, i3, i4⟩⟩ := j1
  have own : ∀ q, r ≤ q ∧ q ≤ r + 35 → (L q).1 = r := fun q z => by
    have e : r + (q - r) = q := by omega
    have l := r2 (q - r) (by omega)
    rw [e] at l
    exact l
  refine ⟨jb, Nt_own j2 f (okLb_fx f j2.1) (fun q _ z => by rw [own q z]; exact ⟨n2, d5, fun y => d1 y.symm⟩), mo_MoC, ?_, TpX_fx f leL_refl x2 (fun z => ?_) (fun z => ?_) j5, (fi 5).trans j6, WD_fx f leL_refl (fun q _ z => by rw [own q z]; exact n2) j7⟩
  · rcases ji with c | ⟨c1, c2, c3, c4, c5⟩
    · exact Or.inl c
    · exact Or.inr ⟨c1, c2, Rep_fx (Int.le_refl BI) f leL_refl j2.1 j2.2.1.1 (fun q _ z => by rw [own q z]; exact ⟨n2, fun y => i2 y.symm⟩) c3, c4, c5⟩
  · have y := own x z
    rw [x3] at y
    exact d1 y
  · have y := own _ z
    rw [j5.2.1.2.2.2] at y
    exact d1 y
theorem J_image {K : am_K} {D : Nat} (hD : 110 ≤ D) (hc : c ≤ 64) (js : JS x P r o s sc ns Z U c h) (H : ∀ h1, JG x P r o s sc ns Z U c 10 [] PO h1 → K (.inl none) h1) : am_ev am_prog D 4 [.inr (.inl x)] h K := by
  obtain ⟨L, N, I, S, SI, B, BI, t, n, V, W, u⟩ := js
  have j1 := u.1.1
  have nt := u.1.2.1
  have oi := u.2.1
  have hC := oi.1.1.1
  have hF := oi.1.1.2.1
  have hG := oi.1.1.2.2.1
  have hA := oi.1.1.2.2.2.1
  have hY := oi.1.1.2.2.2.2.1
  refine X_image (by omega) nt j1.1.1 j1.2.1.2.1 j1.1.2.1 j1.1.2.2 j1.2.2.2.2.2.1.1 hC hF hA hG oi.1.2.1.1 hY (fun h' L' nt' rI f2 fo ff f le okl nl hs z u' => H h' ?_)
  obtain ⟨j, _, tp, okv, ⟨b1, b2, b3⟩, z1, z2⟩ := u
  have w := j1.2.2.2.2.2.1
  have nz := j1.2.2.2.2.2.2.1
  have dz := j1.2.2.2.2.2.2.2.1
  have jb : JB x P r o s sc ns L' N (am_sz h + 1) h' := JB_2 j1 f le nl hs ((fo 0 (by decide)).trans j1.2.1.1) ((fo 1 (by decide)).trans j1.2.1.2.1) f2 ⟨by omega, nz.2.2.2, dz.2.2.1, dz.2.2.2.2.1, dz.2.2.2.2.2⟩ ⟨by have := j1.1.2.1; omega, by have := j1.2.2.1.1; omega, by have := j1.2.2.2.1.2.2.1; omega, by omega⟩
  have xo : ∀ q, q = x → (L q).1 = x := fun q e => by rw [e, j1.1.2.2]
  have mc : MoC h' r (ms S) V W := MoC_fx f j1.2.2.1.1 (fun i hi y => by
    have l := j1.2.2.1.2 i hi
    rw [xo _ y] at l
    exact dz.1 l) j.2.2.1
  have wd := WD_fx f le (fun q _ y => by rw [xo q y]; exact nz.1) j.2.2.2.2.2.2
  have tq := TpX_2 f le j1.1.2.2 (fo 3 (by decide)) (ff 4) j.2.2.2.2.1
  refine ⟨⟨L', N, _, jb⟩, mc.1, fun K2 D hD H2 => ?_⟩
  rw [MoC_id mc]
  refine M_image hD (fun V' W' v2 fv fw w42 w38 => H2 _ _ ⟨L', N, am_sz h + 1, S, S, B, 400, t, n, V', W', ?_, oi, ⟨?_, (fw 44 rfl).trans tp.2⟩, ?_, ⟨by omega, by omega, by omega⟩, ⟨?_, ?_⟩⟩ rfl)
  · rw [fw 47 rfl]
    exact JH_2 jb nt' mc tq ((ff 5).trans j.2.2.2.2.2.1) wd (Or.inr ⟨w42, by omega, rI, oi, fun k a b => by rw [v2]; exact cpy_k ⟨a, b⟩⟩)
  · rw [fv 4 rfl]
    exact tp.1
  · unfold okVs at okv ⊢
    rw [fv 5 rfl, fv 6 rfl, fv 7 rfl]
    exact okv
  · show am_sz h' ≤ _
    omega
  · show am_us h' ≤ _
    omega
theorem J_back {K : am_K} {D : Nat} (hD : 110 ≤ D) (hc : c ≤ 64) (js : JS x P r o s sc ns Z U c h) (H : ∀ kk h1, JG x P r o s sc ns Z U c 11 [] (PA kk) h1 → K (.inl (some (.inl (kk)))) h1) : am_ev am_prog D 5 [.inr (.inl x)] h K := by
  obtain ⟨L, N, I, S, SI, B, BI, t, n, V, W, u⟩ := js
  have j1 := u.1.1
  have nt := u.1.2.1
  have oi := u.2.1
  have hC := oi.1.1.1
  have ji := u.1.2.2.2.1
  have h42 : W 42 = 0 ∨ W 42 = 1 := by
    rcases ji with c | c
    · exact Or.inl c.1
    · exact Or.inr c.1
  have w := j1.2.2.2.2.2.1
  have nz := j1.2.2.2.2.2.2.1
  have dz := j1.2.2.2.2.2.2.2.1
  have iz := j1.2.2.2.2.2.2.2.2
  refine X_back (SI := SI) (BI := BI) (by omega) nt j1.1.1 j1.2.1.2.2 j1.1.2.1 j1.1.2.2 w.1 (fun i0 => ?_) (fun i0 => ?_) (fun i0 h' L' nt' rI f1 fo ff f le okl nl hs z u' => H _ h' ?_)
  · rcases ji with c | ⟨c1, c2, c3, c4, c5⟩
    · exact absurd c.2 i0
    · exact ⟨c3, fun e => iz.1 e.symm, c4.1.1.1, c4.1.1.2.1, c4.1.1.2.2.2.1, c4.1.1.2.2.1, c4.1.2.1.1, c4.1.1.2.2.2.2.1⟩
  · have w0 : W 42 = 0 := by
      rcases ji with c | c
      · exact c.1
      · exact absurd i0 c.2.1
    exact JE_s u nt (Out_fx0 nt.1 fx_refl (by omega) (by omega)) (dz := 0) (du := 0) (by decide) (by decide) (by omega) oi (by omega) (fun b K2 D hD hm => M_back (SI := SI) hD h42 (fun y => absurd y (by omega)) (fun _ => hm) (fun y => absurd y (by omega))) H
  · obtain ⟨j, _, tp, okv, ⟨b1, b2, b3⟩, z1, z2⟩ := u
    rcases ji with c | ⟨c1, c2, c3, c4, c5⟩
    · exact absurd c.2 i0
    have hI : I ≤ am_sz h := c3.1.1.2.1
    have jb : JB x P r o s sc ns L' (am_sz h + 1) I h' := JB_2 j1 f le nl hs ((fo 0 (by decide)).trans j1.2.1.1) f1 ((fo 2 (by decide)).trans j1.2.1.2.2) ⟨by omega, by omega, by have := j1.1.2.1; omega, by have := j1.2.2.1.1; omega, by have := j1.2.2.2.1.2.2.1; omega⟩ ⟨iz.1, iz.2.1, iz.2.2.1, by omega⟩
    have xo : ∀ q, q = x → (L q).1 = x := fun q e => by rw [e, j1.1.2.2]
    have mc : MoC h' r (ms S) V W := MoC_fx f j1.2.2.1.1 (fun i hi y => by
      have l := j1.2.2.1.2 i hi
      rw [xo _ y] at l
      exact dz.1 l) j.2.2.1
    have wd := WD_fx f le (fun q _ y => by rw [xo q y]; exact nz.1) j.2.2.2.2.2.2
    have tq := TpX_2 f le j1.1.2.2 (fo 3 (by decide)) (ff 4) j.2.2.2.2.1
    refine ⟨⟨L', _, I, jb⟩, mc.1, fun K2 D hD H2 => ?_⟩
    rw [MoC_id mc]
    refine M_back (SI := SI) hD h42 (fun _ => c5) (fun y => absurd y (by omega)) (fun _ V' W' p w38 => H2 _ _ ⟨L', am_sz h + 1, I, SI, SI, 400, BI, t, n, V', W', ?_, c4, ⟨?_, p.2.2.2.2.1.trans tp.2⟩, ?_, ⟨by omega, by omega, by omega⟩, ⟨?_, ?_⟩⟩ rfl)
    · rw [p.2.2.2.2.2]
      exact JH_2 jb nt' mc tq ((ff 5).trans j.2.2.2.2.2.1) wd (Or.inr ⟨p.2.2.2.1.trans c1, c2, rI, c4, by rw [p.1]; exact c5⟩)
    · rw [p.2.1]
      exact tp.1
    · unfold okVs at okv ⊢
      rw [p.2.2.1.1, p.2.2.1.2.1, p.2.2.1.2.2]
      exact okv
    · show am_sz h' ≤ _
      omega
    · show am_us h' ≤ _
      omega
end
