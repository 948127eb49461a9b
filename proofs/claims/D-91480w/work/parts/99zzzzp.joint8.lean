set_option maxRecDepth 100000
/-- the room has been called: the model's call then ends as Ψ says -/
def JG (x P r o s : Nat) (sc : Int → Int) (ns : Int) (Z U c : Nat) (y : Nat) (as : List am_V) (Ψ : am_H → am_R → Prop) (h1 : am_H) : Prop := (∃ L N I, JB x P r o s sc ns L N I h1) ∧ am_ty h1 r = 5 ∧ ∀ (K2 : am_K) (D : Nat), 90 ≤ D → (∀ h2 v, JS x P r o s sc ns Z U (c + 1) h2 → Ψ h2 v → K2 v h2) → am_ev am_prog D y (.inr (.inl r) :: as) h1 K2
def PI (r o : Nat) (k : Int) (h2 : am_H) (v : am_R) : Prop := ∃ b : Int, v = .inl (some (.inl b)) ∧ am_fi h2 38 r = k ∧ (k = 0 → am_ai h2 o 0 = b)
def PB (r o : Nat) (k : Int) (h2 : am_H) (v : am_R) : Prop := ∃ b : Int, v = .inl (some (.inl b)) ∧ am_fi h2 38 r = k ∧ (k = 0 → am_ai h2 o 0 = b ∧ (b = 0 ∨ b = 1))
def PN (r : Nat) (k : Int) (h2 : am_H) (v : am_R) : Prop := v = .inl none ∧ am_fi h2 38 r = k
def PA (a : Int) (_ : am_H) (v : am_R) : Prop := v = .inl (some (.inl a))
def PO (_ : am_H) (v : am_R) : Prop := v = .inl none
/-- what the model's other things are behind a call -/
def pJ (V : Nat → Int → Int) (W : Nat → Int) (V' : Nat → Int → Int) (W' : Nat → Int) (t : Int → Int) (n fl : Int) : Prop := V' 2 = V 2 ∧ tpR t (V' 4) n ∧ okVs V' ∧ W' 42 = W 42 ∧ W' 44 = n ∧ W' 47 = fl
section
variable {h h' : am_H} {L L' : am_Lb} {x P r o s : Nat} {sc : Int → Int} {ns : Int} {N I : Nat} {S S' m SI : am_G} {B B' BI : Int} {t : Int → Int} {n fl : Int} {V V' : Nat → Int → Int} {W W' : Nat → Int} {Z U c : Nat}
theorem JM_G {y : Nat} {as : List am_V} {k : Int} (m : JM x P r o s sc ns Z U c y as k h) : JG x P r o s sc ns Z U c y as (PI r o k) h := ⟨m.1, m.2.1, fun K2 D hD H => m.2.2 K2 D hD (fun h2 b js e a => H h2 _ js ⟨b, rfl, e, a⟩)⟩
theorem pS_pJ (tp : tpR t (V 4) n ∧ W 44 = n) (ok : okVs V) (p : pS V W V' W') : pJ V W V' W' t n (W 47) := by
  obtain ⟨p2, p4, ⟨p5, p6, p7⟩, p42, p44, p47⟩ := p
  refine ⟨p2, by rw [p4]; exact tp.1, ?_, p42, p44.trans tp.2, p47⟩
  unfold okVs at ok ⊢
  rw [p5, p6, p7]
  exact ok
theorem pF_pJ (tp : tpR t (V 4) n) (p : pF V W V' W' n fl) : pJ V W V' W' t n fl := by
  obtain ⟨p2, p4, p5, p42, p44, p47⟩ := p
  exact ⟨p2, by rw [p4]; exact tp, p5, p42, p44, p47⟩
/-- the law's state behind the model's call -/
theorem JS_M (j : JH x P r o s sc ns L' N I S' S SI B' BI t n fl V W h') (oi : okI S') (p : pJ V W V' W' t n fl) (hB : B' ≤ 1000 * (c + 1 : Nat) + 400) (un : unT S' ≤ (c + 1 : Nat)) (unI : unT SI ≤ (c + 1 : Nat)) (z : am_sz h' ≤ Z + 9400 * (c + 1)) (u : am_us h' ≤ U + 96000 * (c + 1)) : JS x P r o s sc ns Z U (c + 1) (mo h' r (ms S') V' W') ∧ am_fi (mo h' r (ms S') V' W') 38 r = W' 38 ∧ am_ai (mo h' r (ms S') V' W') o 0 = am_ai h' o 0 := by
  have e := MoC_id j.2.2.1
  obtain ⟨p2, p4, p5, p42, p44, p47⟩ := p
  have j' := JH_M (m' := S') (V' := V') (W' := W') j p2 p42
  have j1 := j.1
  have fo := (mo_fx (b := h') (r := r) (m := ms S) (m' := ms S') (V := V) (V' := V') (W := W) (W' := W')).2.2.2 o (by rw [← e]; exact j1.2.2.2.1.2.2.1)
  have uo := fo.2.2 (fun y => by
    have e : r + (o - r) = o := by omega
    have l := j1.2.2.1.2 (o - r) (by omega)
    rw [e, j1.2.2.2.1.2.2.2] at l
    exact j1.2.2.2.2.2.2.2.1.2.2.2.1 l.symm)
  rw [← e] at uo
  refine ⟨⟨L', N, I, S', SI, B', BI, t, n, V', W', ?_, oi, ⟨p4, p44⟩, p5, ⟨hB, un, unI⟩, ⟨z, u⟩⟩, mo_i, ?_⟩
  · rw [p47]
    exact j'
  · rw [uo.2.2.1]
/-- the model's part of any call: RR says where it comes to -/
theorem JG_m {y : Nat} {as : List am_V} {Ψ : am_H → am_R → Prop} {RR : am_G → Int → am_R → Prop} (jb : JB x P r o s sc ns L' N I h') (mc : MoC h' r (ms S) V W) (he : ∀ S' k v, RR S' k v → JH x P r o s sc ns L' N I S' S SI B' BI t n fl V W h' ∧ okI S' ∧ unT S' ≤ (c + 1 : Nat) ∧ ∀ h2, am_fi h2 38 r = k → am_ai h2 o 0 = am_ai h' o 0 → Ψ h2 v) (hB : B' ≤ 1000 * (c + 1 : Nat) + 400) (unI : unT SI ≤ (c + 1 : Nat)) (z : am_sz h' ≤ Z + 9400 * (c + 1)) (u : am_us h' ≤ U + 96000 * (c + 1)) (hm : ∀ (K2 : am_K) (D : Nat), 90 ≤ D → (∀ S' k v V' W', RR S' k v → pJ V W V' W' t n fl → W' 38 = k → K2 v (mo h' r (ms S') V' W')) → am_ev am_prog D y (.inr (.inl r) :: as) (mo h' r (ms S) V W) K2) : JG x P r o s sc ns Z U c y as Ψ h' := by
  refine ⟨⟨L', N, I, jb⟩, mc.1, fun K2 D hD H => ?_⟩
  rw [MoC_id mc]
  refine hm K2 D hD (fun S' k v V' W' rr p w => ?_)
  obtain ⟨jh, oi, un, hp⟩ := he S' k v rr
  obtain ⟨q1, q2, q3⟩ := JS_M (c := c) (Z := Z) (U := U) jh oi p hB un unI z u
  exact H _ v q1 (hp _ (q2.trans w) q3)
/-- a plain call of the room, nothing written -/
theorem JG_n {y : Nat} {as : List am_V} {Ψ : am_H → am_R → Prop} {k : Int} {v : am_R} {dz du : Nat} (u : (JH x P r o s sc ns L N I S S SI B BI t n (W 47) V W h ∧ okI S ∧ (tpR t (V 4) n ∧ W 44 = n) ∧ okVs V ∧ (B ≤ 1000 * c + 400 ∧ unT S ≤ c ∧ unT SI ≤ c) ∧ (am_sz h ≤ Z + 9400 * c ∧ am_us h ≤ U + 96000 * c))) (nt : Nt h' L' x P N S' B') (ot : Out h L x N h' L' dz du) (zz : dz ≤ 9400) (uu : du ≤ 96000) (hB : B' ≤ B + 1000) (oi' : okI S') (un : unT S' ≤ unT S + 1) (hΨ : ∀ h2, am_fi h2 38 r = k → Ψ h2 v) (hm : ∀ (b : am_H) (K2 : am_K) (D : Nat), 90 ≤ D → (∀ V' W', pS V W V' W' → W' 38 = k → K2 v (mo b r (ms S') V' W')) → am_ev am_prog D y (.inr (.inl r) :: as) (mo b r (ms S) V W) K2) : JG x P r o s sc ns Z U c y as Ψ h' := by
  obtain ⟨j, oi, tp, okv, ⟨b1, b2, b3⟩, z1, z2⟩ := u
  have o3 := ot.2.2.1
  have j' := JH_X j ot nt
  refine JG_m (RR := fun a b e => a = S' ∧ b = k ∧ e = v) (B' := B') (BI := BI) (SI := SI) (t := t) (n := n) (fl := W 47) j'.1 j'.2.2.1 (fun a b e g => ?_) (by omega) (by omega) (by omega) (by omega) (fun K2 D hD H => hm h' K2 D hD (fun V' W' p w => H S' k v V' W' ⟨rfl, rfl, rfl⟩ (pS_pJ tp okv p) w))
  obtain ⟨g1, g2, g3⟩ := g
  subst g1 g2 g3
  exact ⟨j', oi', by omega, fun h2 a _ => hΨ h2 a⟩
/-- .. the answer written -/
theorem JG_s {y : Nat} {as : List am_V} {Ψ : am_H → am_R → Prop} {a : Int} {v : am_R} {dz du : Nat} (u : (JH x P r o s sc ns L N I S S SI B BI t n (W 47) V W h ∧ okI S ∧ (tpR t (V 4) n ∧ W 44 = n) ∧ okVs V ∧ (B ≤ 1000 * c + 400 ∧ unT S ≤ c ∧ unT SI ≤ c) ∧ (am_sz h ≤ Z + 9400 * c ∧ am_us h ≤ U + 96000 * c))) (nt : Nt h' L' x P N S' B') (ot : Out h L x N h' L' dz du) (zz : dz ≤ 9400) (uu : du ≤ 96000) (hB : B' ≤ B + 1000) (oi' : okI S') (un : unT S' ≤ unT S + 1) (hΨ : ∀ h2, am_fi h2 38 r = 0 → am_ai h2 o 0 = a → Ψ h2 v) (hm : ∀ (b : am_H) (K2 : am_K) (D : Nat), 90 ≤ D → (∀ V' W', pS V W V' W' → W' 38 = 0 → K2 v (mo b r (ms S') V' W')) → am_ev am_prog D y (.inr (.inl r) :: as) (mo b r (ms S) V W) K2) : (am_ty h' o = 104 ∧ ((0 : Int) ≤ 0 ∧ 0 < am_ln h' o)) ∧ JG x P r o s sc ns Z U c y as Ψ (am_sai h' o 0 a) := by
  obtain ⟨j, oi, tp, okv, ⟨b1, b2, b3⟩, z1, z2⟩ := u
  have o3 := ot.2.2.1
  have j0 := JH_X j ot nt
  have jo := j0.1.2.2.2.1
  have j' := JH_o (i := 0) (y := a) j0
  have ea : am_ai (am_sai h' o 0 a) o 0 = a := by rw [x_aise, am_uz_eq]
  have ez : am_sz (am_sai h' o 0 a) = am_sz h' := rfl
  have eu : am_us (am_sai h' o 0 a) = am_us h' := rfl
  refine ⟨⟨jo.1, by decide, by rw [jo.2.1]; decide⟩, ?_⟩
  generalize am_sai h' o 0 a = h1 at *
  refine JG_m (RR := fun a b e => a = S' ∧ b = 0 ∧ e = v) (B' := B') (BI := BI) (SI := SI) (t := t) (n := n) (fl := W 47) j'.1 j'.2.2.1 (fun a' b e g => ?_) (by omega) (by omega) (by omega) (by omega) (fun K2 D hD H => hm h1 K2 D hD (fun V' W' p w => H S' 0 v V' W' ⟨rfl, rfl, rfl⟩ (pS_pJ tp okv p) w))
  obtain ⟨g1, g2, g3⟩ := g
  subst g1 g2 g3
  exact ⟨j', oi', by omega, fun h2 q w => hΨ h2 q (w.trans ea)⟩
/-- the room threw: the model's answer is not asked -/
theorem PI_t {k b : Int} (k0 : k ≠ 0) (h2 : am_H) (e : am_fi h2 38 r = k) : PI r o k h2 (.inl (some (.inl b))) := ⟨b, rfl, e, fun z => absurd z k0⟩
theorem PB_t {k b : Int} (k0 : k ≠ 0) (h2 : am_H) (e : am_fi h2 38 r = k) : PB r o k h2 (.inl (some (.inl b))) := ⟨b, rfl, e, fun z => absurd z k0⟩
theorem PN_t {k : Int} (h2 : am_H) (e : am_fi h2 38 r = k) : PN r k h2 (.inl none) := ⟨rfl, e⟩
/-- a boolean answer -/
theorem JE_b {K : am_K} {y : Nat} {as : List am_V} {a : Int} {dz du : Nat} (u : (JH x P r o s sc ns L N I S S SI B BI t n (W 47) V W h ∧ okI S ∧ (tpR t (V 4) n ∧ W 44 = n) ∧ okVs V ∧ (B ≤ 1000 * c + 400 ∧ unT S ≤ c ∧ unT SI ≤ c) ∧ (am_sz h ≤ Z + 9400 * c ∧ am_us h ≤ U + 96000 * c))) (nt : Nt h' L' x P N S' B') (ot : Out h L x N h' L' dz du) (zz : dz ≤ 9400) (uu : du ≤ 96000) (hB : B' ≤ B + 1000) (oi' : okI S') (un : unT S' ≤ unT S + 1) (ha : a = 0 ∨ a = 1) (hm : ∀ (b : am_H) (K2 : am_K) (D : Nat), 90 ≤ D → MR b r K2 S' V W 0 a → am_ev am_prog D y (.inr (.inl r) :: as) (mo b r (ms S) V W) K2) (H : ∀ kk h1, JG x P r o s sc ns Z U c y as (PB r o kk) h1 → K (.inl (some (.inl kk))) h1) : (a = 0 → (am_ty h' o = 104 ∧ ((0 : Int) ≤ 0 ∧ 0 < am_ln h' o)) ∧ K (.inl (some (.inl 0))) (am_sai h' o 0 0)) ∧ (a ≠ 0 → (am_ty h' o = 104 ∧ ((0 : Int) ≤ 0 ∧ 0 < am_ln h' o)) ∧ K (.inl (some (.inl 0))) (am_sai h' o 0 1)) := by
  have e := JG_s (Ψ := PB r o 0) (v := .inl (some (.inl a))) (a := a) u nt ot zz uu hB oi' un (fun h2 f w => ⟨a, rfl, f, fun _ => ⟨w, ha⟩⟩) hm
  refine ⟨fun z => ?_, fun z => ?_⟩
  · rw [z] at e
    exact ⟨e.1, H _ _ e.2⟩
  · rw [ha.resolve_left z] at e
    exact ⟨e.1, H _ _ e.2⟩
theorem JE_tb {y : Nat} {as : List am_V} {k a : Int} {dz du : Nat} (u : (JH x P r o s sc ns L N I S S SI B BI t n (W 47) V W h ∧ okI S ∧ (tpR t (V 4) n ∧ W 44 = n) ∧ okVs V ∧ (B ≤ 1000 * c + 400 ∧ unT S ≤ c ∧ unT SI ≤ c) ∧ (am_sz h ≤ Z + 9400 * c ∧ am_us h ≤ U + 96000 * c))) (nt : Nt h' L x P N S B) (ot : Out h L x N h' L dz du) (zz : dz ≤ 9400) (uu : du ≤ 96000) (k0 : k ≠ 0) (hm : ∀ (b : am_H) (K2 : am_K) (D : Nat), 90 ≤ D → MR b r K2 S V W k a → am_ev am_prog D y (.inr (.inl r) :: as) (mo b r (ms S) V W) K2) : JG x P r o s sc ns Z U c y as (PB r o k) h' :=
  JG_n (v := .inl (some (.inl a))) u nt ot zz uu (by omega) u.2.1 (by omega) (fun h2 e => PB_t k0 h2 e) hm
theorem JE_tn {y : Nat} {as : List am_V} {k : Int} {dz du : Nat} (u : (JH x P r o s sc ns L N I S S SI B BI t n (W 47) V W h ∧ okI S ∧ (tpR t (V 4) n ∧ W 44 = n) ∧ okVs V ∧ (B ≤ 1000 * c + 400 ∧ unT S ≤ c ∧ unT SI ≤ c) ∧ (am_sz h ≤ Z + 9400 * c ∧ am_us h ≤ U + 96000 * c))) (nt : Nt h' L x P N S B) (ot : Out h L x N h' L dz du) (zz : dz ≤ 9400) (uu : du ≤ 96000) (k0 : k ≠ 0) (hm : ∀ (b : am_H) (K2 : am_K) (D : Nat), 90 ≤ D → MN b r K2 S V W k → am_ev am_prog D y (.inr (.inl r) :: as) (mo b r (ms S) V W) K2) : JG x P r o s sc ns Z U c y as (PN r k) h' :=
  JG_n (v := .inl none) u nt ot zz uu (by omega) u.2.1 (by omega) (fun h2 e => PN_t h2 e) hm
theorem JE_n {K : am_K} {y : Nat} {as : List am_V} {dz du : Nat} (u : (JH x P r o s sc ns L N I S S SI B BI t n (W 47) V W h ∧ okI S ∧ (tpR t (V 4) n ∧ W 44 = n) ∧ okVs V ∧ (B ≤ 1000 * c + 400 ∧ unT S ≤ c ∧ unT SI ≤ c) ∧ (am_sz h ≤ Z + 9400 * c ∧ am_us h ≤ U + 96000 * c))) (nt : Nt h' L' x P N S' B') (ot : Out h L x N h' L' dz du) (zz : dz ≤ 9400) (uu : du ≤ 96000) (hB : B' ≤ B + 1000) (oi' : okI S') (un : unT S' ≤ unT S + 1) (hm : ∀ (b : am_H) (K2 : am_K) (D : Nat), 90 ≤ D → MN b r K2 S' V W 0 → am_ev am_prog D y (.inr (.inl r) :: as) (mo b r (ms S) V W) K2) (H : ∀ kk h1, JG x P r o s sc ns Z U c y as (PN r kk) h1 → K (.inl (some (.inl kk))) h1) : K (.inl (some (.inl 0))) h' :=
  H 0 _ (JG_n (v := .inl none) u nt ot zz uu hB oi' un (fun h2 e => PN_t h2 e) hm)
/-- a straight call: the answer itself -/
theorem JE_s {K : am_K} {y : Nat} {as : List am_V} {a : Int} {dz du : Nat} (u : (JH x P r o s sc ns L N I S S SI B BI t n (W 47) V W h ∧ okI S ∧ (tpR t (V 4) n ∧ W 44 = n) ∧ okVs V ∧ (B ≤ 1000 * c + 400 ∧ unT S ≤ c ∧ unT SI ≤ c) ∧ (am_sz h ≤ Z + 9400 * c ∧ am_us h ≤ U + 96000 * c))) (nt : Nt h' L' x P N S' B') (ot : Out h L x N h' L' dz du) (zz : dz ≤ 9400) (uu : du ≤ 96000) (hB : B' ≤ B + 1000) (oi' : okI S') (un : unT S' ≤ unT S + 1) (hm : ∀ (b : am_H) (K2 : am_K) (D : Nat), 90 ≤ D → MR b r K2 S' V W 0 a → am_ev am_prog D y (.inr (.inl r) :: as) (mo b r (ms S) V W) K2) (H : ∀ a h1, JG x P r o s sc ns Z U c y as (PA a) h1 → K (.inl (some (.inl a))) h1) : K (.inl (some (.inl a))) h' :=
  H a _ (JG_n (v := .inl (some (.inl a))) u nt ot zz uu hB oi' un (fun _ _ => rfl) hm)
end
