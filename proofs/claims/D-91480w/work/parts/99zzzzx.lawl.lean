set_option maxRecDepth 100000
section
variable {x P r o s : Nat} {sc : Int → Int} {ns : Int} {Z U c d : Nat} {i : Int} {Q : am_K} {h : am_H} {o5 o6 : Option am_V}
theorem ly_feed (hd : 98 ≤ d) (hc : c ≤ 63) (hi : 0 ≤ i ∧ i + 6 ≤ ns) (hn : ns ≤ 384) (sr : ∀ k, 0 ≤ k → k < ns → -2147483648 ≤ sc k ∧ sc k ≤ 2147483647) (nx : ∀ h2 o5 o6, JS x P r o s sc ns Z U (c + 1) h2 → am_W m_L_law (am_ev am_prog (d + 12)) Q 13 [some (.inr (.inl s)), some (.inr (.inl x)), some (.inr (.inl r)), some (.inr (.inl o)), some (.inl (i + 6)), o5, o6] [] h2) (js : JS x P r o s sc ns Z U c h) : am_ev am_prog (d + 12) 80 [.inr (.inl x), .inl (am_ai h s (i + 1)), .inl (am_ai h s (i + 2)), .inl (am_ai h s (i + 3)), .inl (am_ai h s (i + 4)), .inl (am_ai h s (i + 5))] h (am_aft (am_hand m_L_law Q (am_W m_L_law (am_ev am_prog (d + 12)) Q) 51) (am_W m_L_law (am_ev am_prog (d + 12)) Q) 51 [some (.inr (.inl s)), some (.inr (.inl x)), some (.inr (.inl r)), some (.inr (.inl o)), some (.inl i), o5, o6] []) := by
  obtain ⟨t0, e0, f0, _⟩ := ly_f js
  rw [f0]
  refine J_feed (by omega) (by omega)  js (fun kk h1 jm => am_av (v_L_law_52 ?_))
  obtain ⟨t1, e1, f1⟩ := jb_f jm.1
  rw [f1]
  refine ⟨⟨by omega, Or.inr t1, by omega, by omega, by omega, by omega, by omega, by omega, by omega, by omega, by omega⟩, jm.2.1, jm.2.2 _ _ (by omega) (fun h2 v js2 p => ?_)⟩
  have p2 : v = .inl (some (.inl kk)) := p
  subst p2
  exact am_av (v_L_law_79 (ly_S hi hn (nx _ _ _ js2)))
theorem ly_end (hd : 98 ≤ d) (hc : c ≤ 63) (hi : 0 ≤ i ∧ i + 6 ≤ ns) (hn : ns ≤ 384) (sr : ∀ k, 0 ≤ k → k < ns → -2147483648 ≤ sc k ∧ sc k ≤ 2147483647) (nx : ∀ h2 o5 o6, JS x P r o s sc ns Z U (c + 1) h2 → am_W m_L_law (am_ev am_prog (d + 12)) Q 13 [some (.inr (.inl s)), some (.inr (.inl x)), some (.inr (.inl r)), some (.inr (.inl o)), some (.inl (i + 6)), o5, o6] [] h2) (js : JS x P r o s sc ns Z U c h) : am_ev am_prog (d + 12) 16 [.inr (.inl x), .inl (am_ai h s (i + 1))] h (am_aft (am_hand m_L_law Q (am_W m_L_law (am_ev am_prog (d + 12)) Q) 88) (am_W m_L_law (am_ev am_prog (d + 12)) Q) 88 [some (.inr (.inl s)), some (.inr (.inl x)), some (.inr (.inl r)), some (.inr (.inl o)), some (.inl i), o5, o6] []) := by
  obtain ⟨t0, e0, f0, _⟩ := ly_f js
  rw [f0]
  refine J_end (by omega) (by omega)  js (fun kk h1 jm => am_av (v_L_law_89 ?_))
  obtain ⟨t1, e1, f1⟩ := jb_f jm.1
  rw [f1]
  refine ⟨⟨by omega, Or.inr t1, by omega⟩, jm.2.1, jm.2.2 _ _ (by omega) (fun h2 v js2 p => ?_)⟩
  have p2 : v = .inl (some (.inl kk)) := p
  subst p2
  exact am_av (v_L_law_96 (ly_S hi hn (nx _ _ _ js2)))
theorem ly_width (hd : 98 ≤ d) (hc : c ≤ 63) (hi : 0 ≤ i ∧ i + 6 ≤ ns) (hn : ns ≤ 384) (sr : ∀ k, 0 ≤ k → k < ns → -2147483648 ≤ sc k ∧ sc k ≤ 2147483647) (nx : ∀ h2 o5 o6, JS x P r o s sc ns Z U (c + 1) h2 → am_W m_L_law (am_ev am_prog (d + 12)) Q 13 [some (.inr (.inl s)), some (.inr (.inl x)), some (.inr (.inl r)), some (.inr (.inl o)), some (.inl (i + 6)), o5, o6] [] h2) (js : JS x P r o s sc ns Z U c h) : am_ev am_prog (d + 12) 51 [.inr (.inl x), .inl (am_ai h s (i + 1)), .inl (am_ai h s (i + 2)), .inl (am_ai h s (i + 3))] h (am_aft (am_hand m_L_law Q (am_W m_L_law (am_ev am_prog (d + 12)) Q) 115) (am_W m_L_law (am_ev am_prog (d + 12)) Q) 115 [some (.inr (.inl s)), some (.inr (.inl x)), some (.inr (.inl r)), some (.inr (.inl o)), some (.inl i), o5, o6] []) := by
  obtain ⟨t0, e0, f0, _⟩ := ly_f js
  rw [f0]
  refine J_width (by omega) (by omega) (sr _ (by omega) (by omega)) (sr _ (by omega) (by omega)) (sr _ (by omega) (by omega)) js (fun kk h1 jm => am_av (v_L_law_116 ?_))
  obtain ⟨t1, e1, f1⟩ := jb_f jm.1
  rw [f1]
  refine ⟨⟨by omega, Or.inr t1, by omega, by omega, by omega, by omega, by omega⟩, jm.2.1, jm.2.2 _ _ (by omega) (fun h2 v js2 p => ?_)⟩
  obtain ⟨rfl, e⟩ := p
  exact am_an (v_L_law_134 (ly_V hi hn js2 e (nx _ _ _ js2)))
theorem ly_story (hd : 98 ≤ d) (hc : c ≤ 63) (hi : 0 ≤ i ∧ i + 6 ≤ ns) (hn : ns ≤ 384) (sr : ∀ k, 0 ≤ k → k < ns → -2147483648 ≤ sc k ∧ sc k ≤ 2147483647) (nx : ∀ h2 o5 o6, JS x P r o s sc ns Z U (c + 1) h2 → am_W m_L_law (am_ev am_prog (d + 12)) Q 13 [some (.inr (.inl s)), some (.inr (.inl x)), some (.inr (.inl r)), some (.inr (.inl o)), some (.inl (i + 6)), o5, o6] [] h2) (js : JS x P r o s sc ns Z U c h) : am_ev am_prog (d + 12) 25 [.inr (.inl x), .inl (am_ai h s (i + 1)), .inl (am_ai h s (i + 2)), .inr (.inl o)] h (am_aft (am_hand m_L_law Q (am_W m_L_law (am_ev am_prog (d + 12)) Q) 153) (am_W m_L_law (am_ev am_prog (d + 12)) Q) 153 [some (.inr (.inl s)), some (.inr (.inl x)), some (.inr (.inl r)), some (.inr (.inl o)), some (.inl i), o5, o6] []) := by
  obtain ⟨t0, e0, f0, _⟩ := ly_f js
  rw [f0]
  refine J_story (by omega) (by omega) (sr _ (by omega) (by omega)) (sr _ (by omega) (by omega)) js (fun kk h1 jm => am_av (v_L_law_154 ?_))
  obtain ⟨t1, e1, f1⟩ := jb_f jm.1
  rw [f1]
  refine ⟨⟨by omega, Or.inr t1, by omega, by omega, by omega⟩, jm.2.1, jm.2.2 _ _ (by omega) (fun h2 v js2 p => ?_)⟩
  obtain ⟨b, rfl, e, k0⟩ := p
  exact am_av (v_L_law_167 (ly_I hi hn js2 e k0 (nx _ _ _ js2)))
theorem ly_style (hd : 98 ≤ d) (hc : c ≤ 63) (hi : 0 ≤ i ∧ i + 6 ≤ ns) (hn : ns ≤ 384) (sr : ∀ k, 0 ≤ k → k < ns → -2147483648 ≤ sc k ∧ sc k ≤ 2147483647) (nx : ∀ h2 o5 o6, JS x P r o s sc ns Z U (c + 1) h2 → am_W m_L_law (am_ev am_prog (d + 12)) Q 13 [some (.inr (.inl s)), some (.inr (.inl x)), some (.inr (.inl r)), some (.inr (.inl o)), some (.inl (i + 6)), o5, o6] [] h2) (js : JS x P r o s sc ns Z U c h) : am_ev am_prog (d + 12) 19 [.inr (.inl x), .inl (am_ai h s (i + 1)), .inr (.inl o)] h (am_aft (am_hand m_L_law Q (am_W m_L_law (am_ev am_prog (d + 12)) Q) 193) (am_W m_L_law (am_ev am_prog (d + 12)) Q) 193 [some (.inr (.inl s)), some (.inr (.inl x)), some (.inr (.inl r)), some (.inr (.inl o)), some (.inl i), o5, o6] []) := by
  obtain ⟨t0, e0, f0, _⟩ := ly_f js
  rw [f0]
  refine J_style (by omega) (by omega) (sr _ (by omega) (by omega)) js (fun kk h1 jm => am_av (v_L_law_194 ?_))
  obtain ⟨t1, e1, f1⟩ := jb_f jm.1
  rw [f1]
  refine ⟨⟨by omega, Or.inr t1, by omega⟩, jm.2.1, jm.2.2 _ _ (by omega) (fun h2 v js2 p => ?_)⟩
  obtain ⟨b, rfl, e, k0⟩ := p
  exact am_av (v_L_law_202 (ly_I hi hn js2 e k0 (nx _ _ _ js2)))
theorem ly_fault (hd : 98 ≤ d) (hc : c ≤ 63) (hi : 0 ≤ i ∧ i + 6 ≤ ns) (hn : ns ≤ 384) (sr : ∀ k, 0 ≤ k → k < ns → -2147483648 ≤ sc k ∧ sc k ≤ 2147483647) (nx : ∀ h2 o5 o6, JS x P r o s sc ns Z U (c + 1) h2 → am_W m_L_law (am_ev am_prog (d + 12)) Q 13 [some (.inr (.inl s)), some (.inr (.inl x)), some (.inr (.inl r)), some (.inr (.inl o)), some (.inl (i + 6)), o5, o6] [] h2) (js : JS x P r o s sc ns Z U c h) : am_ev am_prog (d + 12) 7 [.inr (.inl x)] h (am_aft (am_hand m_L_law Q (am_W m_L_law (am_ev am_prog (d + 12)) Q) 222) (am_W m_L_law (am_ev am_prog (d + 12)) Q) 222 [some (.inr (.inl s)), some (.inr (.inl x)), some (.inr (.inl r)), some (.inr (.inl o)), some (.inl i), o5, o6] []) := by
  refine J_fault (by omega) (by omega)  js (fun kk h1 jm => am_av (v_L_law_223 ?_))
  refine ⟨jm.2.1, jm.2.2 _ _ (by omega) (fun h2 v js2 p => ?_)⟩
  have p2 : v = .inl (some (.inl kk)) := p
  subst p2
  exact am_av (v_L_law_225 (ly_S hi hn (nx _ _ _ js2)))
theorem ly_part (hd : 98 ≤ d) (hc : c ≤ 63) (hi : 0 ≤ i ∧ i + 6 ≤ ns) (hn : ns ≤ 384) (sr : ∀ k, 0 ≤ k → k < ns → -2147483648 ≤ sc k ∧ sc k ≤ 2147483647) (nx : ∀ h2 o5 o6, JS x P r o s sc ns Z U (c + 1) h2 → am_W m_L_law (am_ev am_prog (d + 12)) Q 13 [some (.inr (.inl s)), some (.inr (.inl x)), some (.inr (.inl r)), some (.inr (.inl o)), some (.inl (i + 6)), o5, o6] [] h2) (js : JS x P r o s sc ns Z U c h) : am_ev am_prog (d + 12) 35 [.inr (.inl x), .inl (am_ai h s (i + 1)), .inl (am_ai h s (i + 2)), .inr (.inl o)] h (am_aft (am_hand m_L_law Q (am_W m_L_law (am_ev am_prog (d + 12)) Q) 240) (am_W m_L_law (am_ev am_prog (d + 12)) Q) 240 [some (.inr (.inl s)), some (.inr (.inl x)), some (.inr (.inl r)), some (.inr (.inl o)), some (.inl i), o5, o6] []) := by
  obtain ⟨t0, e0, f0, _⟩ := ly_f js
  rw [f0]
  refine J_part (by omega) (by omega) (sr _ (by omega) (by omega)) (sr _ (by omega) (by omega)) js (fun kk h1 jm => am_av (v_L_law_241 ?_))
  obtain ⟨t1, e1, f1⟩ := jb_f jm.1
  rw [f1]
  refine ⟨⟨by omega, Or.inr t1, by omega, by omega, by omega⟩, jm.2.1, jm.2.2 _ _ (by omega) (fun h2 b js2 e k0 => ?_)⟩
  exact am_av (v_L_law_254 (ly_I hi hn js2 e k0 (nx _ _ _ js2)))
theorem ly_rule (hd : 98 ≤ d) (hc : c ≤ 63) (hi : 0 ≤ i ∧ i + 6 ≤ ns) (hn : ns ≤ 384) (sr : ∀ k, 0 ≤ k → k < ns → -2147483648 ≤ sc k ∧ sc k ≤ 2147483647) (nx : ∀ h2 o5 o6, JS x P r o s sc ns Z U (c + 1) h2 → am_W m_L_law (am_ev am_prog (d + 12)) Q 13 [some (.inr (.inl s)), some (.inr (.inl x)), some (.inr (.inl r)), some (.inr (.inl o)), some (.inl (i + 6)), o5, o6] [] h2) (js : JS x P r o s sc ns Z U c h) : am_ev am_prog (d + 12) 54 [.inr (.inl x), .inl (am_ai h s (i + 1)), .inl (am_ai h s (i + 2)), .inl (am_ai h s (i + 3)), .inr (.inl o)] h (am_aft (am_hand m_L_law Q (am_W m_L_law (am_ev am_prog (d + 12)) Q) 290) (am_W m_L_law (am_ev am_prog (d + 12)) Q) 290 [some (.inr (.inl s)), some (.inr (.inl x)), some (.inr (.inl r)), some (.inr (.inl o)), some (.inl i), o5, o6] []) := by
  obtain ⟨t0, e0, f0, _⟩ := ly_f js
  rw [f0]
  refine J_rule (by omega) (by omega) (sr _ (by omega) (by omega)) (sr _ (by omega) (by omega)) (sr _ (by omega) (by omega)) js (fun kk h1 jm => am_av (v_L_law_291 ?_))
  obtain ⟨t1, e1, f1⟩ := jb_f jm.1
  rw [f1]
  refine ⟨⟨by omega, Or.inr t1, by omega, by omega, by omega, by omega, by omega⟩, jm.2.1, jm.2.2 _ _ (by omega) (fun h2 b js2 e k0 => ?_)⟩
  exact am_av (v_L_law_309 (ly_I hi hn js2 e k0 (nx _ _ _ js2)))
theorem ly_best (hd : 98 ≤ d) (hc : c ≤ 63) (hi : 0 ≤ i ∧ i + 6 ≤ ns) (hn : ns ≤ 384) (sr : ∀ k, 0 ≤ k → k < ns → -2147483648 ≤ sc k ∧ sc k ≤ 2147483647) (nx : ∀ h2 o5 o6, JS x P r o s sc ns Z U (c + 1) h2 → am_W m_L_law (am_ev am_prog (d + 12)) Q 13 [some (.inr (.inl s)), some (.inr (.inl x)), some (.inr (.inl r)), some (.inr (.inl o)), some (.inl (i + 6)), o5, o6] [] h2) (js : JS x P r o s sc ns Z U c h) : am_ev am_prog (d + 12) 32 [.inr (.inl x), .inl (am_ai h s (i + 1)), .inl (am_ai h s (i + 2)), .inr (.inl o)] h (am_aft (am_hand m_L_law Q (am_W m_L_law (am_ev am_prog (d + 12)) Q) 340) (am_W m_L_law (am_ev am_prog (d + 12)) Q) 340 [some (.inr (.inl s)), some (.inr (.inl x)), some (.inr (.inl r)), some (.inr (.inl o)), some (.inl i), o5, o6] []) := by
  obtain ⟨t0, e0, f0, _⟩ := ly_f js
  rw [f0]
  refine J_best (by omega) (by omega) (sr _ (by omega) (by omega)) (sr _ (by omega) (by omega)) js (fun kk h1 jm => am_av (v_L_law_341 ?_))
  obtain ⟨t1, e1, f1⟩ := jb_f jm.1
  rw [f1]
  refine ⟨⟨by omega, Or.inr t1, by omega, by omega, by omega⟩, jm.2.1, jm.2.2 _ _ (by omega) (fun h2 b js2 e k0 => ?_)⟩
  exact am_av (v_L_law_354 (ly_I hi hn js2 e k0 (nx _ _ _ js2)))
theorem ly_ends (hd : 98 ≤ d) (hc : c ≤ 63) (hi : 0 ≤ i ∧ i + 6 ≤ ns) (hn : ns ≤ 384) (sr : ∀ k, 0 ≤ k → k < ns → -2147483648 ≤ sc k ∧ sc k ≤ 2147483647) (nx : ∀ h2 o5 o6, JS x P r o s sc ns Z U (c + 1) h2 → am_W m_L_law (am_ev am_prog (d + 12)) Q 13 [some (.inr (.inl s)), some (.inr (.inl x)), some (.inr (.inl r)), some (.inr (.inl o)), some (.inl (i + 6)), o5, o6] [] h2) (js : JS x P r o s sc ns Z U c h) : am_ev am_prog (d + 12) 38 [.inr (.inl x), .inl (am_ai h s (i + 1)), .inl (am_ai h s (i + 2)), .inr (.inl o)] h (am_aft (am_hand m_L_law Q (am_W m_L_law (am_ev am_prog (d + 12)) Q) 385) (am_W m_L_law (am_ev am_prog (d + 12)) Q) 385 [some (.inr (.inl s)), some (.inr (.inl x)), some (.inr (.inl r)), some (.inr (.inl o)), some (.inl i), o5, o6] []) := by
  obtain ⟨t0, e0, f0, _⟩ := ly_f js
  rw [f0]
  refine J_ends (by omega) (by omega) (sr _ (by omega) (by omega)) (sr _ (by omega) (by omega)) js (fun kk h1 jm => am_av (v_L_law_386 ?_))
  obtain ⟨t1, e1, f1⟩ := jb_f jm.1
  rw [f1]
  refine ⟨⟨by omega, Or.inr t1, by omega, by omega, by omega⟩, jm.2.1, jm.2.2 _ _ (by omega) (fun h2 b js2 e k0 => ?_)⟩
  exact am_av (v_L_law_399 (ly_I hi hn js2 e k0 (nx _ _ _ js2)))
theorem ly_hand0 (hd : 98 ≤ d) (hc : c ≤ 63) (hi : 0 ≤ i ∧ i + 6 ≤ ns) (hn : ns ≤ 384) (sr : ∀ k, 0 ≤ k → k < ns → -2147483648 ≤ sc k ∧ sc k ≤ 2147483647) (nx : ∀ h2 o5 o6, JS x P r o s sc ns Z U (c + 1) h2 → am_W m_L_law (am_ev am_prog (d + 12)) Q 13 [some (.inr (.inl s)), some (.inr (.inl x)), some (.inr (.inl r)), some (.inr (.inl o)), some (.inl (i + 6)), o5, o6] [] h2) (js : JS x P r o s sc ns Z U c h) (z : am_ai h s (i + 2) = 0) : am_ev am_prog (d + 12) 42 [.inr (.inl x), .inl (am_ai h s (i + 1)), .inl 0, .inr (.inl o)] h (am_aft (am_hand m_L_law Q (am_W m_L_law (am_ev am_prog (d + 12)) Q) 434) (am_W m_L_law (am_ev am_prog (d + 12)) Q) 434 [some (.inr (.inl s)), some (.inr (.inl x)), some (.inr (.inl r)), some (.inr (.inl o)), some (.inl i), o5, o6] []) := by
  obtain ⟨t0, e0, f0, _⟩ := ly_f js
  rw [f0] at z ⊢
  refine J_hand (by omega) (by omega) (sr _ (by omega) (by omega)) ⟨by decide, by decide⟩ js (fun kk h1 jm => am_av (v_L_law_435 ?_))
  obtain ⟨t1, e1, f1⟩ := jb_f jm.1
  rw [f1]
  refine ⟨⟨by omega, Or.inr t1, by omega, by omega, by omega⟩, fun _ => ⟨jm.2.1, jm.2.2 _ _ (by omega) (fun h2 b js2 e k0 => ?_)⟩, fun y => absurd z y⟩
  exact am_av (v_L_law_452 (ly_I hi hn js2 e k0 (nx _ _ _ js2)))
theorem ly_hand1 (hd : 98 ≤ d) (hc : c ≤ 63) (hi : 0 ≤ i ∧ i + 6 ≤ ns) (hn : ns ≤ 384) (sr : ∀ k, 0 ≤ k → k < ns → -2147483648 ≤ sc k ∧ sc k ≤ 2147483647) (nx : ∀ h2 o5 o6, JS x P r o s sc ns Z U (c + 1) h2 → am_W m_L_law (am_ev am_prog (d + 12)) Q 13 [some (.inr (.inl s)), some (.inr (.inl x)), some (.inr (.inl r)), some (.inr (.inl o)), some (.inl (i + 6)), o5, o6] [] h2) (js : JS x P r o s sc ns Z U c h) (z : am_ai h s (i + 2) ≠ 0) : am_ev am_prog (d + 12) 42 [.inr (.inl x), .inl (am_ai h s (i + 1)), .inl 1, .inr (.inl o)] h (am_aft (am_hand m_L_law Q (am_W m_L_law (am_ev am_prog (d + 12)) Q) 434) (am_W m_L_law (am_ev am_prog (d + 12)) Q) 434 [some (.inr (.inl s)), some (.inr (.inl x)), some (.inr (.inl r)), some (.inr (.inl o)), some (.inl i), o5, o6] []) := by
  obtain ⟨t0, e0, f0, _⟩ := ly_f js
  rw [f0] at z ⊢
  refine J_hand (by omega) (by omega) (sr _ (by omega) (by omega)) ⟨by decide, by decide⟩ js (fun kk h1 jm => am_av (v_L_law_435 ?_))
  obtain ⟨t1, e1, f1⟩ := jb_f jm.1
  rw [f1]
  refine ⟨⟨by omega, Or.inr t1, by omega, by omega, by omega⟩, fun y => absurd y z, fun _ => ⟨jm.2.1, jm.2.2 _ _ (by omega) (fun h2 b js2 e k0 => ?_)⟩⟩
  exact am_av (v_L_law_452 (ly_I hi hn js2 e k0 (nx _ _ _ js2)))
theorem ly_machine (hd : 98 ≤ d) (hc : c ≤ 63) (hi : 0 ≤ i ∧ i + 6 ≤ ns) (hn : ns ≤ 384) (sr : ∀ k, 0 ≤ k → k < ns → -2147483648 ≤ sc k ∧ sc k ≤ 2147483647) (nx : ∀ h2 o5 o6, JS x P r o s sc ns Z U (c + 1) h2 → am_W m_L_law (am_ev am_prog (d + 12)) Q 13 [some (.inr (.inl s)), some (.inr (.inl x)), some (.inr (.inl r)), some (.inr (.inl o)), some (.inl (i + 6)), o5, o6] [] h2) (js : JS x P r o s sc ns Z U c h) : am_ev am_prog (d + 12) 34 [.inr (.inl x), .inl (am_ai h s (i + 1)), .inl (am_ai h s (i + 2)), .inr (.inl o)] h (am_aft (am_hand m_L_law Q (am_W m_L_law (am_ev am_prog (d + 12)) Q) 483) (am_W m_L_law (am_ev am_prog (d + 12)) Q) 483 [some (.inr (.inl s)), some (.inr (.inl x)), some (.inr (.inl r)), some (.inr (.inl o)), some (.inl i), o5, o6] []) := by
  obtain ⟨t0, e0, f0, _⟩ := ly_f js
  rw [f0]
  refine J_machine (by omega) (by omega) (sr _ (by omega) (by omega)) (sr _ (by omega) (by omega)) js (fun kk h1 jm => am_av (v_L_law_484 ?_))
  obtain ⟨t1, e1, f1⟩ := jb_f jm.1
  rw [f1]
  refine ⟨⟨by omega, Or.inr t1, by omega, by omega, by omega⟩, jm.2.1, jm.2.2 _ _ (by omega) (fun h2 b js2 e k0 => ?_)⟩
  exact am_av (v_L_law_497 (ly_I hi hn js2 e k0 (nx _ _ _ js2)))
theorem ly_brass (hd : 98 ≤ d) (hc : c ≤ 63) (hi : 0 ≤ i ∧ i + 6 ≤ ns) (hn : ns ≤ 384) (sr : ∀ k, 0 ≤ k → k < ns → -2147483648 ≤ sc k ∧ sc k ≤ 2147483647) (nx : ∀ h2 o5 o6, JS x P r o s sc ns Z U (c + 1) h2 → am_W m_L_law (am_ev am_prog (d + 12)) Q 13 [some (.inr (.inl s)), some (.inr (.inl x)), some (.inr (.inl r)), some (.inr (.inl o)), some (.inl (i + 6)), o5, o6] [] h2) (js : JS x P r o s sc ns Z U c h) : am_ev am_prog (d + 12) 52 [.inr (.inl x), .inl (am_ai h s (i + 1)), .inl (am_ai h s (i + 2)), .inl (am_ai h s (i + 3)), .inr (.inl o)] h (am_aft (am_hand m_L_law Q (am_W m_L_law (am_ev am_prog (d + 12)) Q) 533) (am_W m_L_law (am_ev am_prog (d + 12)) Q) 533 [some (.inr (.inl s)), some (.inr (.inl x)), some (.inr (.inl r)), some (.inr (.inl o)), some (.inl i), o5, o6] []) := by
  obtain ⟨t0, e0, f0, _⟩ := ly_f js
  rw [f0]
  refine J_brass (by omega) (by omega) (sr _ (by omega) (by omega)) (sr _ (by omega) (by omega)) (sr _ (by omega) (by omega)) js (fun kk h1 jm => am_av (v_L_law_534 ?_))
  obtain ⟨t1, e1, f1⟩ := jb_f jm.1
  rw [f1]
  refine ⟨⟨by omega, Or.inr t1, by omega, by omega, by omega, by omega, by omega⟩, jm.2.1, jm.2.2 _ _ (by omega) (fun h2 b js2 e k0 => ?_)⟩
  exact am_av (v_L_law_552 (ly_I hi hn js2 e k0 (nx _ _ _ js2)))
theorem ly_broken0 (hd : 98 ≤ d) (hc : c ≤ 63) (hi : 0 ≤ i ∧ i + 6 ≤ ns) (hn : ns ≤ 384) (sr : ∀ k, 0 ≤ k → k < ns → -2147483648 ≤ sc k ∧ sc k ≤ 2147483647) (nx : ∀ h2 o5 o6, JS x P r o s sc ns Z U (c + 1) h2 → am_W m_L_law (am_ev am_prog (d + 12)) Q 13 [some (.inr (.inl s)), some (.inr (.inl x)), some (.inr (.inl r)), some (.inr (.inl o)), some (.inl (i + 6)), o5, o6] [] h2) (js : JS x P r o s sc ns Z U c h) (z : am_ai h s (i + 2) = 0) : am_ev am_prog (d + 12) 43 [.inr (.inl x), .inl (am_ai h s (i + 1)), .inl 0, .inr (.inl o)] h (am_aft (am_hand m_L_law Q (am_W m_L_law (am_ev am_prog (d + 12)) Q) 587) (am_W m_L_law (am_ev am_prog (d + 12)) Q) 587 [some (.inr (.inl s)), some (.inr (.inl x)), some (.inr (.inl r)), some (.inr (.inl o)), some (.inl i), o5, o6] []) := by
  obtain ⟨t0, e0, f0, _⟩ := ly_f js
  rw [f0] at z ⊢
  refine J_broken (by omega) (by omega) (sr _ (by omega) (by omega)) ⟨by decide, by decide⟩ (Or.inl rfl) js (fun kk h1 jm => am_av (v_L_law_588 ?_))
  obtain ⟨t1, e1, f1⟩ := jb_f jm.1
  rw [f1]
  refine ⟨⟨by omega, Or.inr t1, by omega, by omega, by omega⟩, fun _ => ⟨jm.2.1, jm.2.2 _ _ (by omega) (fun h2 v js2 p => ?_)⟩, fun y => absurd z y⟩
  obtain ⟨b, rfl, e, k0⟩ := p
  exact am_av (v_L_law_605 (ly_B hi hn js2 e k0 (nx _ _ _ js2)))
theorem ly_broken1 (hd : 98 ≤ d) (hc : c ≤ 63) (hi : 0 ≤ i ∧ i + 6 ≤ ns) (hn : ns ≤ 384) (sr : ∀ k, 0 ≤ k → k < ns → -2147483648 ≤ sc k ∧ sc k ≤ 2147483647) (nx : ∀ h2 o5 o6, JS x P r o s sc ns Z U (c + 1) h2 → am_W m_L_law (am_ev am_prog (d + 12)) Q 13 [some (.inr (.inl s)), some (.inr (.inl x)), some (.inr (.inl r)), some (.inr (.inl o)), some (.inl (i + 6)), o5, o6] [] h2) (js : JS x P r o s sc ns Z U c h) (z : am_ai h s (i + 2) ≠ 0) : am_ev am_prog (d + 12) 43 [.inr (.inl x), .inl (am_ai h s (i + 1)), .inl 1, .inr (.inl o)] h (am_aft (am_hand m_L_law Q (am_W m_L_law (am_ev am_prog (d + 12)) Q) 587) (am_W m_L_law (am_ev am_prog (d + 12)) Q) 587 [some (.inr (.inl s)), some (.inr (.inl x)), some (.inr (.inl r)), some (.inr (.inl o)), some (.inl i), o5, o6] []) := by
  obtain ⟨t0, e0, f0, _⟩ := ly_f js
  rw [f0] at z ⊢
  refine J_broken (by omega) (by omega) (sr _ (by omega) (by omega)) ⟨by decide, by decide⟩ (Or.inr rfl) js (fun kk h1 jm => am_av (v_L_law_588 ?_))
  obtain ⟨t1, e1, f1⟩ := jb_f jm.1
  rw [f1]
  refine ⟨⟨by omega, Or.inr t1, by omega, by omega, by omega⟩, fun y => absurd y z, fun _ => ⟨jm.2.1, jm.2.2 _ _ (by omega) (fun h2 v js2 p => ?_)⟩⟩
  obtain ⟨b, rfl, e, k0⟩ := p
  exact am_av (v_L_law_605 (ly_B hi hn js2 e k0 (nx _ _ _ js2)))
theorem ly_give (hd : 98 ≤ d) (hc : c ≤ 63) (hi : 0 ≤ i ∧ i + 6 ≤ ns) (hn : ns ≤ 384) (sr : ∀ k, 0 ≤ k → k < ns → -2147483648 ≤ sc k ∧ sc k ≤ 2147483647) (nx : ∀ h2 o5 o6, JS x P r o s sc ns Z U (c + 1) h2 → am_W m_L_law (am_ev am_prog (d + 12)) Q 13 [some (.inr (.inl s)), some (.inr (.inl x)), some (.inr (.inl r)), some (.inr (.inl o)), some (.inl (i + 6)), o5, o6] [] h2) (js : JS x P r o s sc ns Z U c h) : am_ev am_prog (d + 12) 37 [.inr (.inl x), .inl (am_ai h s (i + 1)), .inl (am_ai h s (i + 2)), .inr (.inl o)] h (am_aft (am_hand m_L_law Q (am_W m_L_law (am_ev am_prog (d + 12)) Q) 639) (am_W m_L_law (am_ev am_prog (d + 12)) Q) 639 [some (.inr (.inl s)), some (.inr (.inl x)), some (.inr (.inl r)), some (.inr (.inl o)), some (.inl i), o5, o6] []) := by
  obtain ⟨t0, e0, f0, _⟩ := ly_f js
  rw [f0]
  refine J_give (by omega) (by omega) (sr _ (by omega) (by omega)) (sr _ (by omega) (by omega)) js (fun kk h1 jm => am_av (v_L_law_640 ?_))
  obtain ⟨t1, e1, f1⟩ := jb_f jm.1
  rw [f1]
  refine ⟨⟨by omega, Or.inr t1, by omega, by omega, by omega⟩, jm.2.1, jm.2.2 _ _ (by omega) (fun h2 b js2 e k0 => ?_)⟩
  exact am_av (v_L_law_653 (ly_I hi hn js2 e k0 (nx _ _ _ js2)))
theorem ly_minutes (hd : 98 ≤ d) (hc : c ≤ 63) (hi : 0 ≤ i ∧ i + 6 ≤ ns) (hn : ns ≤ 384) (sr : ∀ k, 0 ≤ k → k < ns → -2147483648 ≤ sc k ∧ sc k ≤ 2147483647) (nx : ∀ h2 o5 o6, JS x P r o s sc ns Z U (c + 1) h2 → am_W m_L_law (am_ev am_prog (d + 12)) Q 13 [some (.inr (.inl s)), some (.inr (.inl x)), some (.inr (.inl r)), some (.inr (.inl o)), some (.inl (i + 6)), o5, o6] [] h2) (js : JS x P r o s sc ns Z U c h) : am_ev am_prog (d + 12) 18 [.inr (.inl x), .inl (am_ai h s (i + 1)), .inr (.inl o)] h (am_aft (am_hand m_L_law Q (am_W m_L_law (am_ev am_prog (d + 12)) Q) 679) (am_W m_L_law (am_ev am_prog (d + 12)) Q) 679 [some (.inr (.inl s)), some (.inr (.inl x)), some (.inr (.inl r)), some (.inr (.inl o)), some (.inl i), o5, o6] []) := by
  obtain ⟨t0, e0, f0, _⟩ := ly_f js
  rw [f0]
  refine J_minutes (by omega) (by omega) (sr _ (by omega) (by omega)) js (fun kk h1 jm => am_av (v_L_law_680 ?_))
  obtain ⟨t1, e1, f1⟩ := jb_f jm.1
  rw [f1]
  refine ⟨⟨by omega, Or.inr t1, by omega⟩, jm.2.1, jm.2.2 _ _ (by omega) (fun h2 b js2 e k0 => ?_)⟩
  exact am_av (v_L_law_688 (ly_I hi hn js2 e k0 (nx _ _ _ js2)))
theorem ly_runs (hd : 98 ≤ d) (hc : c ≤ 63) (hi : 0 ≤ i ∧ i + 6 ≤ ns) (hn : ns ≤ 384) (sr : ∀ k, 0 ≤ k → k < ns → -2147483648 ≤ sc k ∧ sc k ≤ 2147483647) (nx : ∀ h2 o5 o6, JS x P r o s sc ns Z U (c + 1) h2 → am_W m_L_law (am_ev am_prog (d + 12)) Q 13 [some (.inr (.inl s)), some (.inr (.inl x)), some (.inr (.inl r)), some (.inr (.inl o)), some (.inl (i + 6)), o5, o6] [] h2) (js : JS x P r o s sc ns Z U c h) : am_ev am_prog (d + 12) 31 [.inr (.inl x), .inl (am_ai h s (i + 1)), .inl (am_ai h s (i + 2)), .inr (.inl o)] h (am_aft (am_hand m_L_law Q (am_W m_L_law (am_ev am_prog (d + 12)) Q) 719) (am_W m_L_law (am_ev am_prog (d + 12)) Q) 719 [some (.inr (.inl s)), some (.inr (.inl x)), some (.inr (.inl r)), some (.inr (.inl o)), some (.inl i), o5, o6] []) := by
  obtain ⟨t0, e0, f0, _⟩ := ly_f js
  rw [f0]
  refine J_runs (by omega) (by omega) (sr _ (by omega) (by omega)) (sr _ (by omega) (by omega)) js (fun kk h1 jm => am_av (v_L_law_720 ?_))
  obtain ⟨t1, e1, f1⟩ := jb_f jm.1
  rw [f1]
  refine ⟨⟨by omega, Or.inr t1, by omega, by omega, by omega⟩, jm.2.1, jm.2.2 _ _ (by omega) (fun h2 b js2 e k0 => ?_)⟩
  exact am_av (v_L_law_733 (ly_I hi hn js2 e k0 (nx _ _ _ js2)))
theorem ly_slug (hd : 98 ≤ d) (hc : c ≤ 63) (hi : 0 ≤ i ∧ i + 6 ≤ ns) (hn : ns ≤ 384) (sr : ∀ k, 0 ≤ k → k < ns → -2147483648 ≤ sc k ∧ sc k ≤ 2147483647) (nx : ∀ h2 o5 o6, JS x P r o s sc ns Z U (c + 1) h2 → am_W m_L_law (am_ev am_prog (d + 12)) Q 13 [some (.inr (.inl s)), some (.inr (.inl x)), some (.inr (.inl r)), some (.inr (.inl o)), some (.inl (i + 6)), o5, o6] [] h2) (js : JS x P r o s sc ns Z U c h) : am_ev am_prog (d + 12) 36 [.inr (.inl x), .inl (am_ai h s (i + 1)), .inl (am_ai h s (i + 2)), .inr (.inl o)] h (am_aft (am_hand m_L_law Q (am_W m_L_law (am_ev am_prog (d + 12)) Q) 764) (am_W m_L_law (am_ev am_prog (d + 12)) Q) 764 [some (.inr (.inl s)), some (.inr (.inl x)), some (.inr (.inl r)), some (.inr (.inl o)), some (.inl i), o5, o6] []) := by
  obtain ⟨t0, e0, f0, _⟩ := ly_f js
  rw [f0]
  refine J_slug (by omega) (by omega) (sr _ (by omega) (by omega)) (sr _ (by omega) (by omega)) js (fun kk h1 jm => am_av (v_L_law_765 ?_))
  obtain ⟨t1, e1, f1⟩ := jb_f jm.1
  rw [f1]
  refine ⟨⟨by omega, Or.inr t1, by omega, by omega, by omega⟩, jm.2.1, jm.2.2 _ _ (by omega) (fun h2 b js2 e k0 => ?_)⟩
  exact am_av (v_L_law_778 (ly_I hi hn js2 e k0 (nx _ _ _ js2)))
theorem ly_says (hd : 98 ≤ d) (hc : c ≤ 63) (hi : 0 ≤ i ∧ i + 6 ≤ ns) (hn : ns ≤ 384) (sr : ∀ k, 0 ≤ k → k < ns → -2147483648 ≤ sc k ∧ sc k ≤ 2147483647) (nx : ∀ h2 o5 o6, JS x P r o s sc ns Z U (c + 1) h2 → am_W m_L_law (am_ev am_prog (d + 12)) Q 13 [some (.inr (.inl s)), some (.inr (.inl x)), some (.inr (.inl r)), some (.inr (.inl o)), some (.inl (i + 6)), o5, o6] [] h2) (js : JS x P r o s sc ns Z U c h) : am_ev am_prog (d + 12) 27 [.inr (.inl x), .inl (am_ai h s (i + 1)), .inl (am_ai h s (i + 2)), .inr (.inl o)] h (am_aft (am_hand m_L_law Q (am_W m_L_law (am_ev am_prog (d + 12)) Q) 809) (am_W m_L_law (am_ev am_prog (d + 12)) Q) 809 [some (.inr (.inl s)), some (.inr (.inl x)), some (.inr (.inl r)), some (.inr (.inl o)), some (.inl i), o5, o6] []) := by
  obtain ⟨t0, e0, f0, _⟩ := ly_f js
  rw [f0]
  refine J_says (by omega) (by omega) (sr _ (by omega) (by omega)) (sr _ (by omega) (by omega)) js (fun kk h1 jm => am_av (v_L_law_810 ?_))
  obtain ⟨t1, e1, f1⟩ := jb_f jm.1
  rw [f1]
  refine ⟨⟨by omega, Or.inr t1, by omega, by omega, by omega⟩, jm.2.1, jm.2.2 _ _ (by omega) (fun h2 b js2 e k0 => ?_)⟩
  exact am_av (v_L_law_823 (ly_I hi hn js2 e k0 (nx _ _ _ js2)))
theorem ly_lies (hd : 98 ≤ d) (hc : c ≤ 63) (hi : 0 ≤ i ∧ i + 6 ≤ ns) (hn : ns ≤ 384) (sr : ∀ k, 0 ≤ k → k < ns → -2147483648 ≤ sc k ∧ sc k ≤ 2147483647) (nx : ∀ h2 o5 o6, JS x P r o s sc ns Z U (c + 1) h2 → am_W m_L_law (am_ev am_prog (d + 12)) Q 13 [some (.inr (.inl s)), some (.inr (.inl x)), some (.inr (.inl r)), some (.inr (.inl o)), some (.inl (i + 6)), o5, o6] [] h2) (js : JS x P r o s sc ns Z U c h) : am_ev am_prog (d + 12) 33 [.inr (.inl x), .inl (am_ai h s (i + 1)), .inl (am_ai h s (i + 2)), .inr (.inl o)] h (am_aft (am_hand m_L_law Q (am_W m_L_law (am_ev am_prog (d + 12)) Q) 854) (am_W m_L_law (am_ev am_prog (d + 12)) Q) 854 [some (.inr (.inl s)), some (.inr (.inl x)), some (.inr (.inl r)), some (.inr (.inl o)), some (.inl i), o5, o6] []) := by
  obtain ⟨t0, e0, f0, _⟩ := ly_f js
  rw [f0]
  refine J_lies (by omega) (by omega) (sr _ (by omega) (by omega)) (sr _ (by omega) (by omega)) js (fun kk h1 jm => am_av (v_L_law_855 ?_))
  obtain ⟨t1, e1, f1⟩ := jb_f jm.1
  rw [f1]
  refine ⟨⟨by omega, Or.inr t1, by omega, by omega, by omega⟩, jm.2.1, jm.2.2 _ _ (by omega) (fun h2 b js2 e k0 => ?_)⟩
  exact am_av (v_L_law_868 (ly_I hi hn js2 e k0 (nx _ _ _ js2)))
theorem ly_judge (hd : 98 ≤ d) (hc : c ≤ 63) (hi : 0 ≤ i ∧ i + 6 ≤ ns) (hn : ns ≤ 384) (sr : ∀ k, 0 ≤ k → k < ns → -2147483648 ≤ sc k ∧ sc k ≤ 2147483647) (nx : ∀ h2 o5 o6, JS x P r o s sc ns Z U (c + 1) h2 → am_W m_L_law (am_ev am_prog (d + 12)) Q 13 [some (.inr (.inl s)), some (.inr (.inl x)), some (.inr (.inl r)), some (.inr (.inl o)), some (.inl (i + 6)), o5, o6] [] h2) (js : JS x P r o s sc ns Z U c h) : am_ev am_prog (d + 12) 22 [.inr (.inl x), .inl (am_ai h s (i + 1)), .inr (.inl o)] h (am_aft (am_hand m_L_law Q (am_W m_L_law (am_ev am_prog (d + 12)) Q) 894) (am_W m_L_law (am_ev am_prog (d + 12)) Q) 894 [some (.inr (.inl s)), some (.inr (.inl x)), some (.inr (.inl r)), some (.inr (.inl o)), some (.inl i), o5, o6] []) := by
  obtain ⟨t0, e0, f0, _⟩ := ly_f js
  rw [f0]
  refine J_judge (by omega) (by omega) (sr _ (by omega) (by omega)) js (fun kk h1 jm => am_av (v_L_law_895 ?_))
  obtain ⟨t1, e1, f1⟩ := jb_f jm.1
  rw [f1]
  refine ⟨⟨by omega, Or.inr t1, by omega⟩, jm.2.1, jm.2.2 _ _ (by omega) (fun h2 b js2 e k0 => ?_)⟩
  exact am_av (v_L_law_903 (ly_I hi hn js2 e k0 (nx _ _ _ js2)))
theorem ly_pie (hd : 98 ≤ d) (hc : c ≤ 63) (hi : 0 ≤ i ∧ i + 6 ≤ ns) (hn : ns ≤ 384) (sr : ∀ k, 0 ≤ k → k < ns → -2147483648 ≤ sc k ∧ sc k ≤ 2147483647) (nx : ∀ h2 o5 o6, JS x P r o s sc ns Z U (c + 1) h2 → am_W m_L_law (am_ev am_prog (d + 12)) Q 13 [some (.inr (.inl s)), some (.inr (.inl x)), some (.inr (.inl r)), some (.inr (.inl o)), some (.inl (i + 6)), o5, o6] [] h2) (js : JS x P r o s sc ns Z U c h) : am_ev am_prog (d + 12) 17 [.inr (.inl x), .inl (am_ai h s (i + 1)), .inr (.inl o)] h (am_aft (am_hand m_L_law Q (am_W m_L_law (am_ev am_prog (d + 12)) Q) 929) (am_W m_L_law (am_ev am_prog (d + 12)) Q) 929 [some (.inr (.inl s)), some (.inr (.inl x)), some (.inr (.inl r)), some (.inr (.inl o)), some (.inl i), o5, o6] []) := by
  obtain ⟨t0, e0, f0, _⟩ := ly_f js
  rw [f0]
  refine J_pie (by omega) (by omega) (sr _ (by omega) (by omega)) js (fun kk h1 jm => am_av (v_L_law_930 ?_))
  obtain ⟨t1, e1, f1⟩ := jb_f jm.1
  rw [f1]
  refine ⟨⟨by omega, Or.inr t1, by omega⟩, jm.2.1, jm.2.2 _ _ (by omega) (fun h2 v js2 p => ?_)⟩
  obtain ⟨b, rfl, e, k0⟩ := p
  exact am_av (v_L_law_938 (ly_B hi hn js2 e k0 (nx _ _ _ js2)))
theorem ly_change (hd : 98 ≤ d) (hc : c ≤ 63) (hi : 0 ≤ i ∧ i + 6 ≤ ns) (hn : ns ≤ 384) (sr : ∀ k, 0 ≤ k → k < ns → -2147483648 ≤ sc k ∧ sc k ≤ 2147483647) (nx : ∀ h2 o5 o6, JS x P r o s sc ns Z U (c + 1) h2 → am_W m_L_law (am_ev am_prog (d + 12)) Q 13 [some (.inr (.inl s)), some (.inr (.inl x)), some (.inr (.inl r)), some (.inr (.inl o)), some (.inl (i + 6)), o5, o6] [] h2) (js : JS x P r o s sc ns Z U c h) : am_ev am_prog (d + 12) 30 [.inr (.inl x), .inl (am_ai h s (i + 1)), .inl (am_ai h s (i + 2)), .inr (.inl o)] h (am_aft (am_hand m_L_law Q (am_W m_L_law (am_ev am_prog (d + 12)) Q) 972) (am_W m_L_law (am_ev am_prog (d + 12)) Q) 972 [some (.inr (.inl s)), some (.inr (.inl x)), some (.inr (.inl r)), some (.inr (.inl o)), some (.inl i), o5, o6] []) := by
  obtain ⟨t0, e0, f0, _⟩ := ly_f js
  rw [f0]
  refine J_change (by omega) (by omega) (sr _ (by omega) (by omega)) (sr _ (by omega) (by omega)) js (fun kk h1 jm => am_av (v_L_law_973 ?_))
  obtain ⟨t1, e1, f1⟩ := jb_f jm.1
  rw [f1]
  refine ⟨⟨by omega, Or.inr t1, by omega, by omega, by omega⟩, jm.2.1, jm.2.2 _ _ (by omega) (fun h2 v js2 p => ?_)⟩
  obtain ⟨b, rfl, e, k0⟩ := p
  exact am_av (v_L_law_986 (ly_B hi hn js2 e k0 (nx _ _ _ js2)))
theorem ly_again (hd : 98 ≤ d) (hc : c ≤ 63) (hi : 0 ≤ i ∧ i + 6 ≤ ns) (hn : ns ≤ 384) (sr : ∀ k, 0 ≤ k → k < ns → -2147483648 ≤ sc k ∧ sc k ≤ 2147483647) (nx : ∀ h2 o5 o6, JS x P r o s sc ns Z U (c + 1) h2 → am_W m_L_law (am_ev am_prog (d + 12)) Q 13 [some (.inr (.inl s)), some (.inr (.inl x)), some (.inr (.inl r)), some (.inr (.inl o)), some (.inl (i + 6)), o5, o6] [] h2) (js : JS x P r o s sc ns Z U c h) : am_ev am_prog (d + 12) 62 [.inr (.inl x), .inl (am_ai h s (i + 1)), .inl (am_ai h s (i + 2)), .inl (am_ai h s (i + 3)), .inr (.inl o)] h (am_aft (am_hand m_L_law Q (am_W m_L_law (am_ev am_prog (d + 12)) Q) 1025) (am_W m_L_law (am_ev am_prog (d + 12)) Q) 1025 [some (.inr (.inl s)), some (.inr (.inl x)), some (.inr (.inl r)), some (.inr (.inl o)), some (.inl i), o5, o6] []) := by
  obtain ⟨t0, e0, f0, _⟩ := ly_f js
  rw [f0]
  refine J_again (by omega) (by omega) (sr _ (by omega) (by omega)) (sr _ (by omega) (by omega)) (sr _ (by omega) (by omega)) js (fun kk h1 jm => am_av (v_L_law_1026 ?_))
  obtain ⟨t1, e1, f1⟩ := jb_f jm.1
  rw [f1]
  refine ⟨⟨by omega, Or.inr t1, by omega, by omega, by omega, by omega, by omega⟩, jm.2.1, jm.2.2 _ _ (by omega) (fun h2 b js2 e k0 => ?_)⟩
  exact am_av (v_L_law_1044 (ly_I hi hn js2 e k0 (nx _ _ _ js2)))
theorem ly_correct (hd : 98 ≤ d) (hc : c ≤ 63) (hi : 0 ≤ i ∧ i + 6 ≤ ns) (hn : ns ≤ 384) (sr : ∀ k, 0 ≤ k → k < ns → -2147483648 ≤ sc k ∧ sc k ≤ 2147483647) (nx : ∀ h2 o5 o6, JS x P r o s sc ns Z U (c + 1) h2 → am_W m_L_law (am_ev am_prog (d + 12)) Q 13 [some (.inr (.inl s)), some (.inr (.inl x)), some (.inr (.inl r)), some (.inr (.inl o)), some (.inl (i + 6)), o5, o6] [] h2) (js : JS x P r o s sc ns Z U c h) : am_ev am_prog (d + 12) 57 [.inr (.inl x), .inl (am_ai h s (i + 1)), .inl (am_ai h s (i + 2)), .inl (am_ai h s (i + 3)), .inr (.inl o)] h (am_aft (am_hand m_L_law Q (am_W m_L_law (am_ev am_prog (d + 12)) Q) 1080) (am_W m_L_law (am_ev am_prog (d + 12)) Q) 1080 [some (.inr (.inl s)), some (.inr (.inl x)), some (.inr (.inl r)), some (.inr (.inl o)), some (.inl i), o5, o6] []) := by
  obtain ⟨t0, e0, f0, _⟩ := ly_f js
  rw [f0]
  refine J_correct (by omega) (by omega) (sr _ (by omega) (by omega)) (sr _ (by omega) (by omega)) (sr _ (by omega) (by omega)) js (fun kk h1 jm => am_av (v_L_law_1081 ?_))
  obtain ⟨t1, e1, f1⟩ := jb_f jm.1
  rw [f1]
  refine ⟨⟨by omega, Or.inr t1, by omega, by omega, by omega, by omega, by omega⟩, jm.2.1, jm.2.2 _ _ (by omega) (fun h2 v js2 p => ?_)⟩
  obtain ⟨b, rfl, e, k0⟩ := p
  exact am_av (v_L_law_1099 (ly_I hi hn js2 e k0 (nx _ _ _ js2)))
theorem ly_slip (hd : 98 ≤ d) (hc : c ≤ 63) (hi : 0 ≤ i ∧ i + 6 ≤ ns) (hn : ns ≤ 384) (sr : ∀ k, 0 ≤ k → k < ns → -2147483648 ≤ sc k ∧ sc k ≤ 2147483647) (nx : ∀ h2 o5 o6, JS x P r o s sc ns Z U (c + 1) h2 → am_W m_L_law (am_ev am_prog (d + 12)) Q 13 [some (.inr (.inl s)), some (.inr (.inl x)), some (.inr (.inl r)), some (.inr (.inl o)), some (.inl (i + 6)), o5, o6] [] h2) (js : JS x P r o s sc ns Z U c h) : am_ev am_prog (d + 12) 59 [.inr (.inl x), .inl (am_ai h s (i + 1)), .inl (am_ai h s (i + 2)), .inl (am_ai h s (i + 3)), .inr (.inl o)] h (am_aft (am_hand m_L_law Q (am_W m_L_law (am_ev am_prog (d + 12)) Q) 1135) (am_W m_L_law (am_ev am_prog (d + 12)) Q) 1135 [some (.inr (.inl s)), some (.inr (.inl x)), some (.inr (.inl r)), some (.inr (.inl o)), some (.inl i), o5, o6] []) := by
  obtain ⟨t0, e0, f0, _⟩ := ly_f js
  rw [f0]
  refine J_slip (by omega) (by omega) (sr _ (by omega) (by omega)) (sr _ (by omega) (by omega)) (sr _ (by omega) (by omega)) js (fun kk h1 jm => am_av (v_L_law_1136 ?_))
  obtain ⟨t1, e1, f1⟩ := jb_f jm.1
  rw [f1]
  refine ⟨⟨by omega, Or.inr t1, by omega, by omega, by omega, by omega, by omega⟩, jm.2.1, jm.2.2 _ _ (by omega) (fun h2 v js2 p => ?_)⟩
  obtain ⟨b, rfl, e, k0⟩ := p
  exact am_av (v_L_law_1154 (ly_B hi hn js2 e k0 (nx _ _ _ js2)))
theorem ly_read (hd : 98 ≤ d) (hc : c ≤ 63) (hi : 0 ≤ i ∧ i + 6 ≤ ns) (hn : ns ≤ 384) (sr : ∀ k, 0 ≤ k → k < ns → -2147483648 ≤ sc k ∧ sc k ≤ 2147483647) (nx : ∀ h2 o5 o6, JS x P r o s sc ns Z U (c + 1) h2 → am_W m_L_law (am_ev am_prog (d + 12)) Q 13 [some (.inr (.inl s)), some (.inr (.inl x)), some (.inr (.inl r)), some (.inr (.inl o)), some (.inl (i + 6)), o5, o6] [] h2) (js : JS x P r o s sc ns Z U c h) : am_ev am_prog (d + 12) 26 [.inr (.inl x), .inl (am_ai h s (i + 1)), .inl (am_ai h s (i + 2)), .inr (.inl o)] h (am_aft (am_hand m_L_law Q (am_W m_L_law (am_ev am_prog (d + 12)) Q) 1188) (am_W m_L_law (am_ev am_prog (d + 12)) Q) 1188 [some (.inr (.inl s)), some (.inr (.inl x)), some (.inr (.inl r)), some (.inr (.inl o)), some (.inl i), o5, o6] []) := by
  obtain ⟨t0, e0, f0, _⟩ := ly_f js
  rw [f0]
  refine J_read (by omega) (by omega) (sr _ (by omega) (by omega)) (sr _ (by omega) (by omega)) js (fun kk h1 jm => am_av (v_L_law_1189 ?_))
  obtain ⟨t1, e1, f1⟩ := jb_f jm.1
  rw [f1]
  refine ⟨⟨by omega, Or.inr t1, by omega, by omega, by omega⟩, jm.2.1, jm.2.2 _ _ (by omega) (fun h2 v js2 p => ?_)⟩
  obtain ⟨b, rfl, e, k0⟩ := p
  exact am_av (v_L_law_1202 (ly_B hi hn js2 e k0 (nx _ _ _ js2)))
theorem ly_proof (hd : 98 ≤ d) (hc : c ≤ 63) (hi : 0 ≤ i ∧ i + 6 ≤ ns) (hn : ns ≤ 384) (sr : ∀ k, 0 ≤ k → k < ns → -2147483648 ≤ sc k ∧ sc k ≤ 2147483647) (nx : ∀ h2 o5 o6, JS x P r o s sc ns Z U (c + 1) h2 → am_W m_L_law (am_ev am_prog (d + 12)) Q 13 [some (.inr (.inl s)), some (.inr (.inl x)), some (.inr (.inl r)), some (.inr (.inl o)), some (.inl (i + 6)), o5, o6] [] h2) (js : JS x P r o s sc ns Z U c h) : am_ev am_prog (d + 12) 20 [.inr (.inl x), .inl (am_ai h s (i + 1)), .inr (.inl o)] h (am_aft (am_hand m_L_law Q (am_W m_L_law (am_ev am_prog (d + 12)) Q) 1231) (am_W m_L_law (am_ev am_prog (d + 12)) Q) 1231 [some (.inr (.inl s)), some (.inr (.inl x)), some (.inr (.inl r)), some (.inr (.inl o)), some (.inl i), o5, o6] []) := by
  obtain ⟨t0, e0, f0, _⟩ := ly_f js
  rw [f0]
  refine J_proof (by omega) (by omega) (sr _ (by omega) (by omega)) js (fun kk h1 jm => am_av (v_L_law_1232 ?_))
  obtain ⟨t1, e1, f1⟩ := jb_f jm.1
  rw [f1]
  refine ⟨⟨by omega, Or.inr t1, by omega⟩, jm.2.1, jm.2.2 _ _ (by omega) (fun h2 b js2 e k0 => ?_)⟩
  exact am_av (v_L_law_1240 (ly_I hi hn js2 e k0 (nx _ _ _ js2)))
theorem ly_carry (hd : 98 ≤ d) (hc : c ≤ 63) (hi : 0 ≤ i ∧ i + 6 ≤ ns) (hn : ns ≤ 384) (sr : ∀ k, 0 ≤ k → k < ns → -2147483648 ≤ sc k ∧ sc k ≤ 2147483647) (nx : ∀ h2 o5 o6, JS x P r o s sc ns Z U (c + 1) h2 → am_W m_L_law (am_ev am_prog (d + 12)) Q 13 [some (.inr (.inl s)), some (.inr (.inl x)), some (.inr (.inl r)), some (.inr (.inl o)), some (.inl (i + 6)), o5, o6] [] h2) (js : JS x P r o s sc ns Z U c h) : am_ev am_prog (d + 12) 61 [.inr (.inl x), .inl (am_ai h s (i + 1)), .inl (am_ai h s (i + 2)), .inl (am_ai h s (i + 3)), .inr (.inl o)] h (am_aft (am_hand m_L_law Q (am_W m_L_law (am_ev am_prog (d + 12)) Q) 1276) (am_W m_L_law (am_ev am_prog (d + 12)) Q) 1276 [some (.inr (.inl s)), some (.inr (.inl x)), some (.inr (.inl r)), some (.inr (.inl o)), some (.inl i), o5, o6] []) := by
  obtain ⟨t0, e0, f0, _⟩ := ly_f js
  rw [f0]
  refine J_carry (by omega) (by omega) (sr _ (by omega) (by omega)) (sr _ (by omega) (by omega)) (sr _ (by omega) (by omega)) js (fun kk h1 jm => am_av (v_L_law_1277 ?_))
  obtain ⟨t1, e1, f1⟩ := jb_f jm.1
  rw [f1]
  refine ⟨⟨by omega, Or.inr t1, by omega, by omega, by omega, by omega, by omega⟩, jm.2.1, jm.2.2 _ _ (by omega) (fun h2 b js2 e k0 => ?_)⟩
  exact am_av (v_L_law_1295 (ly_I hi hn js2 e k0 (nx _ _ _ js2)))
theorem ly_where (hd : 98 ≤ d) (hc : c ≤ 63) (hi : 0 ≤ i ∧ i + 6 ≤ ns) (hn : ns ≤ 384) (sr : ∀ k, 0 ≤ k → k < ns → -2147483648 ≤ sc k ∧ sc k ≤ 2147483647) (nx : ∀ h2 o5 o6, JS x P r o s sc ns Z U (c + 1) h2 → am_W m_L_law (am_ev am_prog (d + 12)) Q 13 [some (.inr (.inl s)), some (.inr (.inl x)), some (.inr (.inl r)), some (.inr (.inl o)), some (.inl (i + 6)), o5, o6] [] h2) (js : JS x P r o s sc ns Z U c h) : am_ev am_prog (d + 12) 55 [.inr (.inl x), .inl (am_ai h s (i + 1)), .inl (am_ai h s (i + 2)), .inl (am_ai h s (i + 3)), .inr (.inl o)] h (am_aft (am_hand m_L_law Q (am_W m_L_law (am_ev am_prog (d + 12)) Q) 1331) (am_W m_L_law (am_ev am_prog (d + 12)) Q) 1331 [some (.inr (.inl s)), some (.inr (.inl x)), some (.inr (.inl r)), some (.inr (.inl o)), some (.inl i), o5, o6] []) := by
  obtain ⟨t0, e0, f0, _⟩ := ly_f js
  rw [f0]
  refine J_where (by omega) (by omega) (sr _ (by omega) (by omega)) (sr _ (by omega) (by omega)) (sr _ (by omega) (by omega)) js (fun kk h1 jm => am_av (v_L_law_1332 ?_))
  obtain ⟨t1, e1, f1⟩ := jb_f jm.1
  rw [f1]
  refine ⟨⟨by omega, Or.inr t1, by omega, by omega, by omega, by omega, by omega⟩, jm.2.1, jm.2.2 _ _ (by omega) (fun h2 b js2 e k0 => ?_)⟩
  exact am_av (v_L_law_1350 (ly_I hi hn js2 e k0 (nx _ _ _ js2)))
theorem ly_page (hd : 98 ≤ d) (hc : c ≤ 63) (hi : 0 ≤ i ∧ i + 6 ≤ ns) (hn : ns ≤ 384) (sr : ∀ k, 0 ≤ k → k < ns → -2147483648 ≤ sc k ∧ sc k ≤ 2147483647) (nx : ∀ h2 o5 o6, JS x P r o s sc ns Z U (c + 1) h2 → am_W m_L_law (am_ev am_prog (d + 12)) Q 13 [some (.inr (.inl s)), some (.inr (.inl x)), some (.inr (.inl r)), some (.inr (.inl o)), some (.inl (i + 6)), o5, o6] [] h2) (js : JS x P r o s sc ns Z U c h) : am_ev am_prog (d + 12) 50 [.inr (.inl x), .inl (am_ai h s (i + 1)), .inl (am_ai h s (i + 2)), .inl (am_ai h s (i + 3))] h (am_aft (am_hand m_L_law Q (am_W m_L_law (am_ev am_prog (d + 12)) Q) 1385) (am_W m_L_law (am_ev am_prog (d + 12)) Q) 1385 [some (.inr (.inl s)), some (.inr (.inl x)), some (.inr (.inl r)), some (.inr (.inl o)), some (.inl i), o5, o6] []) := by
  obtain ⟨t0, e0, f0, _⟩ := ly_f js
  rw [f0]
  refine J_page (by omega) (by omega) (sr _ (by omega) (by omega)) (sr _ (by omega) (by omega)) (sr _ (by omega) (by omega)) js (fun kk h1 jm => am_av (v_L_law_1386 ?_))
  obtain ⟨t1, e1, f1⟩ := jb_f jm.1
  rw [f1]
  refine ⟨⟨by omega, Or.inr t1, by omega, by omega, by omega, by omega, by omega⟩, jm.2.1, jm.2.2 _ _ (by omega) (fun h2 v js2 p => ?_)⟩
  obtain ⟨rfl, e⟩ := p
  exact am_an (v_L_law_1404 (ly_V hi hn js2 e (nx _ _ _ js2)))
theorem ly_fit (hd : 98 ≤ d) (hc : c ≤ 63) (hi : 0 ≤ i ∧ i + 6 ≤ ns) (hn : ns ≤ 384) (sr : ∀ k, 0 ≤ k → k < ns → -2147483648 ≤ sc k ∧ sc k ≤ 2147483647) (nx : ∀ h2 o5 o6, JS x P r o s sc ns Z U (c + 1) h2 → am_W m_L_law (am_ev am_prog (d + 12)) Q 13 [some (.inr (.inl s)), some (.inr (.inl x)), some (.inr (.inl r)), some (.inr (.inl o)), some (.inl (i + 6)), o5, o6] [] h2) (js : JS x P r o s sc ns Z U c h) : am_ev am_prog (d + 12) 24 [.inr (.inl x), .inl (am_ai h s (i + 1)), .inl (am_ai h s (i + 2)), .inr (.inl o)] h (am_aft (am_hand m_L_law Q (am_W m_L_law (am_ev am_prog (d + 12)) Q) 1423) (am_W m_L_law (am_ev am_prog (d + 12)) Q) 1423 [some (.inr (.inl s)), some (.inr (.inl x)), some (.inr (.inl r)), some (.inr (.inl o)), some (.inl i), o5, o6] []) := by
  obtain ⟨t0, e0, f0, _⟩ := ly_f js
  rw [f0]
  refine J_fit (by omega) (by omega) (sr _ (by omega) (by omega)) (sr _ (by omega) (by omega)) js (fun kk h1 jm => am_av (v_L_law_1424 ?_))
  obtain ⟨t1, e1, f1⟩ := jb_f jm.1
  rw [f1]
  refine ⟨⟨by omega, Or.inr t1, by omega, by omega, by omega⟩, jm.2.1, jm.2.2 _ _ (by omega) (fun h2 b js2 e k0 => ?_)⟩
  exact am_av (v_L_law_1437 (ly_I hi hn js2 e k0 (nx _ _ _ js2)))
theorem ly_fits0 (hd : 98 ≤ d) (hc : c ≤ 63) (hi : 0 ≤ i ∧ i + 6 ≤ ns) (hn : ns ≤ 384) (sr : ∀ k, 0 ≤ k → k < ns → -2147483648 ≤ sc k ∧ sc k ≤ 2147483647) (nx : ∀ h2 o5 o6, JS x P r o s sc ns Z U (c + 1) h2 → am_W m_L_law (am_ev am_prog (d + 12)) Q 13 [some (.inr (.inl s)), some (.inr (.inl x)), some (.inr (.inl r)), some (.inr (.inl o)), some (.inl (i + 6)), o5, o6] [] h2) (js : JS x P r o s sc ns Z U c h) (z : am_ai h s (i + 4) = 0) : am_ev am_prog (d + 12) 63 [.inr (.inl x), .inl (am_ai h s (i + 1)), .inl (am_ai h s (i + 2)), .inl (am_ai h s (i + 3)), .inl 0, .inr (.inl o)] h (am_aft (am_hand m_L_law Q (am_W m_L_law (am_ev am_prog (d + 12)) Q) 1482) (am_W m_L_law (am_ev am_prog (d + 12)) Q) 1482 [some (.inr (.inl s)), some (.inr (.inl x)), some (.inr (.inl r)), some (.inr (.inl o)), some (.inl i), o5, o6] []) := by
  obtain ⟨t0, e0, f0, _⟩ := ly_f js
  rw [f0] at z ⊢
  refine J_fits (by omega) (by omega) (sr _ (by omega) (by omega)) (sr _ (by omega) (by omega)) (sr _ (by omega) (by omega)) ⟨by decide, by decide⟩ js (fun kk h1 jm => am_av (v_L_law_1483 ?_))
  obtain ⟨t1, e1, f1⟩ := jb_f jm.1
  rw [f1]
  refine ⟨⟨by omega, Or.inr t1, by omega, by omega, by omega, by omega, by omega, by omega, by omega⟩, fun _ => ⟨jm.2.1, jm.2.2 _ _ (by omega) (fun h2 b js2 e k0 => ?_)⟩, fun y => absurd z y⟩
  exact am_av (v_L_law_1510 (ly_I hi hn js2 e k0 (nx _ _ _ js2)))
theorem ly_fits1 (hd : 98 ≤ d) (hc : c ≤ 63) (hi : 0 ≤ i ∧ i + 6 ≤ ns) (hn : ns ≤ 384) (sr : ∀ k, 0 ≤ k → k < ns → -2147483648 ≤ sc k ∧ sc k ≤ 2147483647) (nx : ∀ h2 o5 o6, JS x P r o s sc ns Z U (c + 1) h2 → am_W m_L_law (am_ev am_prog (d + 12)) Q 13 [some (.inr (.inl s)), some (.inr (.inl x)), some (.inr (.inl r)), some (.inr (.inl o)), some (.inl (i + 6)), o5, o6] [] h2) (js : JS x P r o s sc ns Z U c h) (z : am_ai h s (i + 4) ≠ 0) : am_ev am_prog (d + 12) 63 [.inr (.inl x), .inl (am_ai h s (i + 1)), .inl (am_ai h s (i + 2)), .inl (am_ai h s (i + 3)), .inl 1, .inr (.inl o)] h (am_aft (am_hand m_L_law Q (am_W m_L_law (am_ev am_prog (d + 12)) Q) 1482) (am_W m_L_law (am_ev am_prog (d + 12)) Q) 1482 [some (.inr (.inl s)), some (.inr (.inl x)), some (.inr (.inl r)), some (.inr (.inl o)), some (.inl i), o5, o6] []) := by
  obtain ⟨t0, e0, f0, _⟩ := ly_f js
  rw [f0] at z ⊢
  refine J_fits (by omega) (by omega) (sr _ (by omega) (by omega)) (sr _ (by omega) (by omega)) (sr _ (by omega) (by omega)) ⟨by decide, by decide⟩ js (fun kk h1 jm => am_av (v_L_law_1483 ?_))
  obtain ⟨t1, e1, f1⟩ := jb_f jm.1
  rw [f1]
  refine ⟨⟨by omega, Or.inr t1, by omega, by omega, by omega, by omega, by omega, by omega, by omega⟩, fun y => absurd y z, fun _ => ⟨jm.2.1, jm.2.2 _ _ (by omega) (fun h2 b js2 e k0 => ?_)⟩⟩
  exact am_av (v_L_law_1510 (ly_I hi hn js2 e k0 (nx _ _ _ js2)))
theorem ly_lock (hd : 98 ≤ d) (hc : c ≤ 63) (hi : 0 ≤ i ∧ i + 6 ≤ ns) (hn : ns ≤ 384) (sr : ∀ k, 0 ≤ k → k < ns → -2147483648 ≤ sc k ∧ sc k ≤ 2147483647) (nx : ∀ h2 o5 o6, JS x P r o s sc ns Z U (c + 1) h2 → am_W m_L_law (am_ev am_prog (d + 12)) Q 13 [some (.inr (.inl s)), some (.inr (.inl x)), some (.inr (.inl r)), some (.inr (.inl o)), some (.inl (i + 6)), o5, o6] [] h2) (js : JS x P r o s sc ns Z U c h) : am_ev am_prog (d + 12) 39 [.inr (.inl x), .inl (am_ai h s (i + 1)), .inl (am_ai h s (i + 2)), .inr (.inl o)] h (am_aft (am_hand m_L_law Q (am_W m_L_law (am_ev am_prog (d + 12)) Q) 1541) (am_W m_L_law (am_ev am_prog (d + 12)) Q) 1541 [some (.inr (.inl s)), some (.inr (.inl x)), some (.inr (.inl r)), some (.inr (.inl o)), some (.inl i), o5, o6] []) := by
  obtain ⟨t0, e0, f0, _⟩ := ly_f js
  rw [f0]
  refine J_lock (by omega) (by omega) (sr _ (by omega) (by omega)) (sr _ (by omega) (by omega)) js (fun kk h1 jm => am_av (v_L_law_1542 ?_))
  obtain ⟨t1, e1, f1⟩ := jb_f jm.1
  rw [f1]
  refine ⟨⟨by omega, Or.inr t1, by omega, by omega, by omega⟩, jm.2.1, jm.2.2 _ _ (by omega) (fun h2 b js2 e k0 => ?_)⟩
  exact am_av (v_L_law_1555 (ly_I hi hn js2 e k0 (nx _ _ _ js2)))
theorem ly_locked (hd : 98 ≤ d) (hc : c ≤ 63) (hi : 0 ≤ i ∧ i + 6 ≤ ns) (hn : ns ≤ 384) (sr : ∀ k, 0 ≤ k → k < ns → -2147483648 ≤ sc k ∧ sc k ≤ 2147483647) (nx : ∀ h2 o5 o6, JS x P r o s sc ns Z U (c + 1) h2 → am_W m_L_law (am_ev am_prog (d + 12)) Q 13 [some (.inr (.inl s)), some (.inr (.inl x)), some (.inr (.inl r)), some (.inr (.inl o)), some (.inl (i + 6)), o5, o6] [] h2) (js : JS x P r o s sc ns Z U c h) : am_ev am_prog (d + 12) 28 [.inr (.inl x), .inl (am_ai h s (i + 1)), .inl (am_ai h s (i + 2)), .inr (.inl o)] h (am_aft (am_hand m_L_law Q (am_W m_L_law (am_ev am_prog (d + 12)) Q) 1586) (am_W m_L_law (am_ev am_prog (d + 12)) Q) 1586 [some (.inr (.inl s)), some (.inr (.inl x)), some (.inr (.inl r)), some (.inr (.inl o)), some (.inl i), o5, o6] []) := by
  obtain ⟨t0, e0, f0, _⟩ := ly_f js
  rw [f0]
  refine J_locked (by omega) (by omega) (sr _ (by omega) (by omega)) (sr _ (by omega) (by omega)) js (fun kk h1 jm => am_av (v_L_law_1587 ?_))
  obtain ⟨t1, e1, f1⟩ := jb_f jm.1
  rw [f1]
  refine ⟨⟨by omega, Or.inr t1, by omega, by omega, by omega⟩, jm.2.1, jm.2.2 _ _ (by omega) (fun h2 b js2 e k0 => ?_)⟩
  exact am_av (v_L_law_1600 (ly_I hi hn js2 e k0 (nx _ _ _ js2)))
theorem ly_stands (hd : 98 ≤ d) (hc : c ≤ 63) (hi : 0 ≤ i ∧ i + 6 ≤ ns) (hn : ns ≤ 384) (sr : ∀ k, 0 ≤ k → k < ns → -2147483648 ≤ sc k ∧ sc k ≤ 2147483647) (nx : ∀ h2 o5 o6, JS x P r o s sc ns Z U (c + 1) h2 → am_W m_L_law (am_ev am_prog (d + 12)) Q 13 [some (.inr (.inl s)), some (.inr (.inl x)), some (.inr (.inl r)), some (.inr (.inl o)), some (.inl (i + 6)), o5, o6] [] h2) (js : JS x P r o s sc ns Z U c h) : am_ev am_prog (d + 12) 58 [.inr (.inl x), .inl (am_ai h s (i + 1)), .inl (am_ai h s (i + 2)), .inl (am_ai h s (i + 3)), .inr (.inl o)] h (am_aft (am_hand m_L_law Q (am_W m_L_law (am_ev am_prog (d + 12)) Q) 1636) (am_W m_L_law (am_ev am_prog (d + 12)) Q) 1636 [some (.inr (.inl s)), some (.inr (.inl x)), some (.inr (.inl r)), some (.inr (.inl o)), some (.inl i), o5, o6] []) := by
  obtain ⟨t0, e0, f0, _⟩ := ly_f js
  rw [f0]
  refine J_stands (by omega) (by omega) (sr _ (by omega) (by omega)) (sr _ (by omega) (by omega)) (sr _ (by omega) (by omega)) js (fun kk h1 jm => am_av (v_L_law_1637 ?_))
  obtain ⟨t1, e1, f1⟩ := jb_f jm.1
  rw [f1]
  refine ⟨⟨by omega, Or.inr t1, by omega, by omega, by omega, by omega, by omega⟩, jm.2.1, jm.2.2 _ _ (by omega) (fun h2 b js2 e k0 => ?_)⟩
  exact am_av (v_L_law_1655 (ly_I hi hn js2 e k0 (nx _ _ _ js2)))
theorem ly_edition (hd : 98 ≤ d) (hc : c ≤ 63) (hi : 0 ≤ i ∧ i + 6 ≤ ns) (hn : ns ≤ 384) (sr : ∀ k, 0 ≤ k → k < ns → -2147483648 ≤ sc k ∧ sc k ≤ 2147483647) (nx : ∀ h2 o5 o6, JS x P r o s sc ns Z U (c + 1) h2 → am_W m_L_law (am_ev am_prog (d + 12)) Q 13 [some (.inr (.inl s)), some (.inr (.inl x)), some (.inr (.inl r)), some (.inr (.inl o)), some (.inl (i + 6)), o5, o6] [] h2) (js : JS x P r o s sc ns Z U c h) : am_ev am_prog (d + 12) 8 [.inr (.inl x), .inr (.inl o)] h (am_aft (am_hand m_L_law Q (am_W m_L_law (am_ev am_prog (d + 12)) Q) 1676) (am_W m_L_law (am_ev am_prog (d + 12)) Q) 1676 [some (.inr (.inl s)), some (.inr (.inl x)), some (.inr (.inl r)), some (.inr (.inl o)), some (.inl i), o5, o6] []) := by
  refine J_edition (by omega) (by omega)  js (fun kk h1 jm => am_av (v_L_law_1677 ?_))
  refine ⟨jm.2.1, jm.2.2 _ _ (by omega) (fun h2 b js2 e k0 => ?_)⟩
  exact am_av (v_L_law_1680 (ly_I hi hn js2 e k0 (nx _ _ _ js2)))
theorem ly_changed (hd : 98 ≤ d) (hc : c ≤ 63) (hi : 0 ≤ i ∧ i + 6 ≤ ns) (hn : ns ≤ 384) (sr : ∀ k, 0 ≤ k → k < ns → -2147483648 ≤ sc k ∧ sc k ≤ 2147483647) (nx : ∀ h2 o5 o6, JS x P r o s sc ns Z U (c + 1) h2 → am_W m_L_law (am_ev am_prog (d + 12)) Q 13 [some (.inr (.inl s)), some (.inr (.inl x)), some (.inr (.inl r)), some (.inr (.inl o)), some (.inl (i + 6)), o5, o6] [] h2) (js : JS x P r o s sc ns Z U c h) : am_ev am_prog (d + 12) 56 [.inr (.inl x), .inl (am_ai h s (i + 1)), .inl (am_ai h s (i + 2)), .inl (am_ai h s (i + 3)), .inr (.inl o)] h (am_aft (am_hand m_L_law Q (am_W m_L_law (am_ev am_prog (d + 12)) Q) 1716) (am_W m_L_law (am_ev am_prog (d + 12)) Q) 1716 [some (.inr (.inl s)), some (.inr (.inl x)), some (.inr (.inl r)), some (.inr (.inl o)), some (.inl i), o5, o6] []) := by
  obtain ⟨t0, e0, f0, _⟩ := ly_f js
  rw [f0]
  refine J_changed (by omega) (by omega) (sr _ (by omega) (by omega)) (sr _ (by omega) (by omega)) (sr _ (by omega) (by omega)) js (fun kk h1 jm => am_av (v_L_law_1717 ?_))
  obtain ⟨t1, e1, f1⟩ := jb_f jm.1
  rw [f1]
  refine ⟨⟨by omega, Or.inr t1, by omega, by omega, by omega, by omega, by omega⟩, jm.2.1, jm.2.2 _ _ (by omega) (fun h2 b js2 e k0 => ?_)⟩
  exact am_av (v_L_law_1735 (ly_I hi hn js2 e k0 (nx _ _ _ js2)))
theorem ly_least (hd : 98 ≤ d) (hc : c ≤ 63) (hi : 0 ≤ i ∧ i + 6 ≤ ns) (hn : ns ≤ 384) (sr : ∀ k, 0 ≤ k → k < ns → -2147483648 ≤ sc k ∧ sc k ≤ 2147483647) (nx : ∀ h2 o5 o6, JS x P r o s sc ns Z U (c + 1) h2 → am_W m_L_law (am_ev am_prog (d + 12)) Q 13 [some (.inr (.inl s)), some (.inr (.inl x)), some (.inr (.inl r)), some (.inr (.inl o)), some (.inl (i + 6)), o5, o6] [] h2) (js : JS x P r o s sc ns Z U c h) : am_ev am_prog (d + 12) 6 [.inr (.inl x)] h (am_aft (am_hand m_L_law Q (am_W m_L_law (am_ev am_prog (d + 12)) Q) 1755) (am_W m_L_law (am_ev am_prog (d + 12)) Q) 1755 [some (.inr (.inl s)), some (.inr (.inl x)), some (.inr (.inl r)), some (.inr (.inl o)), some (.inl i), o5, o6] []) := by
  refine J_least (by omega) (by omega)  js (fun kk h1 jm => am_av (v_L_law_1756 ?_))
  refine ⟨jm.2.1, jm.2.2 _ _ (by omega) (fun h2 v js2 p => ?_)⟩
  have p2 : v = .inl (some (.inl kk)) := p
  subst p2
  exact am_av (v_L_law_1758 (ly_S hi hn (nx _ _ _ js2)))
theorem ly_ahead (hd : 98 ≤ d) (hc : c ≤ 63) (hi : 0 ≤ i ∧ i + 6 ≤ ns) (hn : ns ≤ 384) (sr : ∀ k, 0 ≤ k → k < ns → -2147483648 ≤ sc k ∧ sc k ≤ 2147483647) (nx : ∀ h2 o5 o6, JS x P r o s sc ns Z U (c + 1) h2 → am_W m_L_law (am_ev am_prog (d + 12)) Q 13 [some (.inr (.inl s)), some (.inr (.inl x)), some (.inr (.inl r)), some (.inr (.inl o)), some (.inl (i + 6)), o5, o6] [] h2) (js : JS x P r o s sc ns Z U c h) : am_ev am_prog (d + 12) 21 [.inr (.inl x), .inl (am_ai h s (i + 1)), .inr (.inl o)] h (am_aft (am_hand m_L_law Q (am_W m_L_law (am_ev am_prog (d + 12)) Q) 1768) (am_W m_L_law (am_ev am_prog (d + 12)) Q) 1768 [some (.inr (.inl s)), some (.inr (.inl x)), some (.inr (.inl r)), some (.inr (.inl o)), some (.inl i), o5, o6] []) := by
  obtain ⟨t0, e0, f0, _⟩ := ly_f js
  rw [f0]
  refine J_ahead (by omega) (by omega) (sr _ (by omega) (by omega)) js (fun kk h1 jm => am_av (v_L_law_1769 ?_))
  obtain ⟨t1, e1, f1⟩ := jb_f jm.1
  rw [f1]
  refine ⟨⟨by omega, Or.inr t1, by omega⟩, jm.2.1, jm.2.2 _ _ (by omega) (fun h2 b js2 e k0 => ?_)⟩
  exact am_av (v_L_law_1777 (ly_I hi hn js2 e k0 (nx _ _ _ js2)))
theorem ly_pay (hd : 98 ≤ d) (hc : c ≤ 63) (hi : 0 ≤ i ∧ i + 6 ≤ ns) (hn : ns ≤ 384) (sr : ∀ k, 0 ≤ k → k < ns → -2147483648 ≤ sc k ∧ sc k ≤ 2147483647) (nx : ∀ h2 o5 o6, JS x P r o s sc ns Z U (c + 1) h2 → am_W m_L_law (am_ev am_prog (d + 12)) Q 13 [some (.inr (.inl s)), some (.inr (.inl x)), some (.inr (.inl r)), some (.inr (.inl o)), some (.inl (i + 6)), o5, o6] [] h2) (js : JS x P r o s sc ns Z U c h) : am_ev am_prog (d + 12) 53 [.inr (.inl x), .inl (am_ai h s (i + 1)), .inl (am_ai h s (i + 2)), .inl (am_ai h s (i + 3)), .inr (.inl o)] h (am_aft (am_hand m_L_law Q (am_W m_L_law (am_ev am_prog (d + 12)) Q) 1813) (am_W m_L_law (am_ev am_prog (d + 12)) Q) 1813 [some (.inr (.inl s)), some (.inr (.inl x)), some (.inr (.inl r)), some (.inr (.inl o)), some (.inl i), o5, o6] []) := by
  obtain ⟨t0, e0, f0, _⟩ := ly_f js
  rw [f0]
  refine J_pay (by omega) (by omega) (sr _ (by omega) (by omega)) (sr _ (by omega) (by omega)) (sr _ (by omega) (by omega)) js (fun kk h1 jm => am_av (v_L_law_1814 ?_))
  obtain ⟨t1, e1, f1⟩ := jb_f jm.1
  rw [f1]
  refine ⟨⟨by omega, Or.inr t1, by omega, by omega, by omega, by omega, by omega⟩, jm.2.1, jm.2.2 _ _ (by omega) (fun h2 b js2 e k0 => ?_)⟩
  exact am_av (v_L_law_1832 (ly_I hi hn js2 e k0 (nx _ _ _ js2)))
theorem ly_row (hd : 98 ≤ d) (hc : c ≤ 63) (hi : 0 ≤ i ∧ i + 6 ≤ ns) (hn : ns ≤ 384) (sr : ∀ k, 0 ≤ k → k < ns → -2147483648 ≤ sc k ∧ sc k ≤ 2147483647) (nx : ∀ h2 o5 o6, JS x P r o s sc ns Z U (c + 1) h2 → am_W m_L_law (am_ev am_prog (d + 12)) Q 13 [some (.inr (.inl s)), some (.inr (.inl x)), some (.inr (.inl r)), some (.inr (.inl o)), some (.inl (i + 6)), o5, o6] [] h2) (js : JS x P r o s sc ns Z U c h) : am_ev am_prog (d + 12) 29 [.inr (.inl x), .inl (am_ai h s (i + 1)), .inl (am_ai h s (i + 2)), .inr (.inl o)] h (am_aft (am_hand m_L_law Q (am_W m_L_law (am_ev am_prog (d + 12)) Q) 1863) (am_W m_L_law (am_ev am_prog (d + 12)) Q) 1863 [some (.inr (.inl s)), some (.inr (.inl x)), some (.inr (.inl r)), some (.inr (.inl o)), some (.inl i), o5, o6] []) := by
  obtain ⟨t0, e0, f0, _⟩ := ly_f js
  rw [f0]
  refine J_row (by omega)  js (fun kk h1 jm => am_av (v_L_law_1864 ?_))
  obtain ⟨t1, e1, f1⟩ := jb_f jm.1
  rw [f1]
  refine ⟨⟨by omega, Or.inr t1, by omega, by omega, by omega⟩, jm.2.1, jm.2.2 _ _ (by omega) (fun h2 b js2 e k0 => ?_)⟩
  exact am_av (v_L_law_1877 (ly_I hi hn js2 e k0 (nx _ _ _ js2)))
theorem ly_tear (hd : 98 ≤ d) (hc : c ≤ 63) (hi : 0 ≤ i ∧ i + 6 ≤ ns) (hn : ns ≤ 384) (sr : ∀ k, 0 ≤ k → k < ns → -2147483648 ≤ sc k ∧ sc k ≤ 2147483647) (nx : ∀ h2 o5 o6, JS x P r o s sc ns Z U (c + 1) h2 → am_W m_L_law (am_ev am_prog (d + 12)) Q 13 [some (.inr (.inl s)), some (.inr (.inl x)), some (.inr (.inl r)), some (.inr (.inl o)), some (.inl (i + 6)), o5, o6] [] h2) (js : JS x P r o s sc ns Z U c h) : am_ev am_prog (d + 12) 60 [.inr (.inl x), .inl (am_ai h s (i + 1)), .inl (am_ai h s (i + 2)), .inl (am_ai h s (i + 3)), .inr (.inl o)] h (am_aft (am_hand m_L_law Q (am_W m_L_law (am_ev am_prog (d + 12)) Q) 1913) (am_W m_L_law (am_ev am_prog (d + 12)) Q) 1913 [some (.inr (.inl s)), some (.inr (.inl x)), some (.inr (.inl r)), some (.inr (.inl o)), some (.inl i), o5, o6] []) := by
  obtain ⟨t0, e0, f0, _⟩ := ly_f js
  rw [f0]
  refine J_tear (by omega)  js (fun kk h1 jm => am_av (v_L_law_1914 ?_))
  obtain ⟨t1, e1, f1⟩ := jb_f jm.1
  rw [f1]
  refine ⟨⟨by omega, Or.inr t1, by omega, by omega, by omega, by omega, by omega⟩, jm.2.1, jm.2.2 _ _ (by omega) (fun h2 b js2 e k0 => ?_)⟩
  exact am_av (v_L_law_1932 (ly_I hi hn js2 e k0 (nx _ _ _ js2)))
theorem ly_check (hd : 98 ≤ d) (hc : c ≤ 63) (hi : 0 ≤ i ∧ i + 6 ≤ ns) (hn : ns ≤ 384) (sr : ∀ k, 0 ≤ k → k < ns → -2147483648 ≤ sc k ∧ sc k ≤ 2147483647) (nx : ∀ h2 o5 o6, JS x P r o s sc ns Z U (c + 1) h2 → am_W m_L_law (am_ev am_prog (d + 12)) Q 13 [some (.inr (.inl s)), some (.inr (.inl x)), some (.inr (.inl r)), some (.inr (.inl o)), some (.inl (i + 6)), o5, o6] [] h2) (js : JS x P r o s sc ns Z U c h) : am_ev am_prog (d + 12) 3 [.inr (.inl x)] h (am_aft (am_hand m_L_law Q (am_W m_L_law (am_ev am_prog (d + 12)) Q) 1952) (am_W m_L_law (am_ev am_prog (d + 12)) Q) 1952 [some (.inr (.inl s)), some (.inr (.inl x)), some (.inr (.inl r)), some (.inr (.inl o)), some (.inl i), o5, o6] []) := by
  refine J_check (by omega) (by omega)  js (fun kk h1 jm => am_av (v_L_law_1953 ?_))
  refine ⟨jm.2.1, jm.2.2 _ _ (by omega) (fun h2 v js2 p => ?_)⟩
  have p2 : v = .inl (some (.inl kk)) := p
  subst p2
  exact am_av (v_L_law_1955 (ly_S hi hn (nx _ _ _ js2)))
theorem ly_image (hd : 98 ≤ d) (hc : c ≤ 63) (hi : 0 ≤ i ∧ i + 6 ≤ ns) (hn : ns ≤ 384) (sr : ∀ k, 0 ≤ k → k < ns → -2147483648 ≤ sc k ∧ sc k ≤ 2147483647) (nx : ∀ h2 o5 o6, JS x P r o s sc ns Z U (c + 1) h2 → am_W m_L_law (am_ev am_prog (d + 12)) Q 13 [some (.inr (.inl s)), some (.inr (.inl x)), some (.inr (.inl r)), some (.inr (.inl o)), some (.inl (i + 6)), o5, o6] [] h2) (js : JS x P r o s sc ns Z U c h) : am_ev am_prog (d + 12) 4 [.inr (.inl x)] h (am_aft (am_hand m_L_law Q (am_W m_L_law (am_ev am_prog (d + 12)) Q) 1959) (am_W m_L_law (am_ev am_prog (d + 12)) Q) 1959 [some (.inr (.inl s)), some (.inr (.inl x)), some (.inr (.inl r)), some (.inr (.inl o)), some (.inl i), o5, o6] []) := by
  refine J_image (by omega) (by omega) js (fun h1 jm => am_an (v_L_law_1960 ⟨jm.2.1, jm.2.2 _ _ (by omega) (fun h2 v js2 p => ?_)⟩))
  have p2 : v = .inl none := p
  subst p2
  exact am_an (v_L_law_1962 ⟨by omega, nx _ _ _ js2⟩)
theorem ly_back (hd : 98 ≤ d) (hc : c ≤ 63) (hi : 0 ≤ i ∧ i + 6 ≤ ns) (hn : ns ≤ 384) (sr : ∀ k, 0 ≤ k → k < ns → -2147483648 ≤ sc k ∧ sc k ≤ 2147483647) (nx : ∀ h2 o5 o6, JS x P r o s sc ns Z U (c + 1) h2 → am_W m_L_law (am_ev am_prog (d + 12)) Q 13 [some (.inr (.inl s)), some (.inr (.inl x)), some (.inr (.inl r)), some (.inr (.inl o)), some (.inl (i + 6)), o5, o6] [] h2) (js : JS x P r o s sc ns Z U c h) : am_ev am_prog (d + 12) 5 [.inr (.inl x)] h (am_aft (am_hand m_L_law Q (am_W m_L_law (am_ev am_prog (d + 12)) Q) 1964) (am_W m_L_law (am_ev am_prog (d + 12)) Q) 1964 [some (.inr (.inl s)), some (.inr (.inl x)), some (.inr (.inl r)), some (.inr (.inl o)), some (.inl i), o5, o6] []) := by
  refine J_back (by omega) (by omega)  js (fun kk h1 jm => am_av (v_L_law_1965 ?_))
  refine ⟨jm.2.1, jm.2.2 _ _ (by omega) (fun h2 v js2 p => ?_)⟩
  have p2 : v = .inl (some (.inl kk)) := p
  subst p2
  exact am_av (v_L_law_1967 (ly_S hi hn (nx _ _ _ js2)))
theorem ly_count (hd : 98 ≤ d) (hc : c ≤ 63) (hi : 0 ≤ i ∧ i + 6 ≤ ns) (hn : ns ≤ 384) (sr : ∀ k, 0 ≤ k → k < ns → -2147483648 ≤ sc k ∧ sc k ≤ 2147483647) (nx : ∀ h2 o5 o6, JS x P r o s sc ns Z U (c + 1) h2 → am_W m_L_law (am_ev am_prog (d + 12)) Q 13 [some (.inr (.inl s)), some (.inr (.inl x)), some (.inr (.inl r)), some (.inr (.inl o)), some (.inl (i + 6)), o5, o6] [] h2) (js : JS x P r o s sc ns Z U c h) : am_ev am_prog (d + 12) 15 [.inr (.inl x), .inl (am_ai h s (i + 1))] h (am_aft (am_hand m_L_law Q (am_W m_L_law (am_ev am_prog (d + 12)) Q) 1976) (am_W m_L_law (am_ev am_prog (d + 12)) Q) 1976 [some (.inr (.inl s)), some (.inr (.inl x)), some (.inr (.inl r)), some (.inr (.inl o)), some (.inl i), o5, o6] []) := by
  obtain ⟨t0, e0, f0, _⟩ := ly_f js
  rw [f0]
  refine J_count (by omega) (by omega) (sr _ (by omega) (by omega)) js (fun kk h1 jm => am_av (v_L_law_1977 ?_))
  obtain ⟨t1, e1, f1⟩ := jb_f jm.1
  rw [f1]
  refine ⟨⟨by omega, Or.inr t1, by omega⟩, jm.2.1, jm.2.2 _ _ (by omega) (fun h2 v js2 p => ?_)⟩
  have p2 : v = .inl (some (.inl kk)) := p
  subst p2
  exact am_av (v_L_law_1984 (ly_S hi hn (nx _ _ _ js2)))
theorem ly_step (hd : 98 ≤ d) (hc : c ≤ 63) (hi : 0 ≤ i ∧ i + 6 ≤ ns) (hn : ns ≤ 384) (sr : ∀ k, 0 ≤ k → k < ns → -2147483648 ≤ sc k ∧ sc k ≤ 2147483647) (nx : ∀ h2 o5 o6, JS x P r o s sc ns Z U (c + 1) h2 → am_W m_L_law (am_ev am_prog (d + 12)) Q 13 [some (.inr (.inl s)), some (.inr (.inl x)), some (.inr (.inl r)), some (.inr (.inl o)), some (.inl (i + 6)), o5, o6] [] h2) (js : JS x P r o s sc ns Z U c h) (le : i ≤ ns - 6) : am_W m_L_law (am_ev am_prog (d + 12)) Q 13 [some (.inr (.inl s)), some (.inr (.inl x)), some (.inr (.inl r)), some (.inr (.inl o)), some (.inl i), o5, o6] [] h := by
  obtain ⟨t0, e0, f0, t3, _⟩ := ly_f js
  refine v_L_law_13 ⟨⟨Or.inr t0, by omega⟩, fun y => by exfalso; omega, fun _ => ⟨by omega, ?_⟩⟩
  exact ⟨fun _ => ⟨⟨by omega, by omega, by omega, by omega, by omega, by omega, by omega, by omega, by omega, by omega⟩, ⟨t3, ly_feed hd hc hi hn sr nx js⟩⟩,
    fun _ => ⟨⟨by omega, by omega⟩, ⟨t3, ly_end hd hc hi hn sr nx js⟩⟩,
    fun _ => ⟨⟨by omega, by omega, by omega, by omega, by omega, by omega⟩, ly_width hd hc hi hn sr nx js⟩,
    fun _ => ⟨⟨by omega, by omega, by omega, by omega⟩, ly_story hd hc hi hn sr nx js⟩,
    fun _ => ⟨⟨by omega, by omega⟩, ly_style hd hc hi hn sr nx js⟩,
    fun _ => ⟨t3, ly_fault hd hc hi hn sr nx js⟩,
    fun _ => ⟨⟨by omega, by omega, by omega, by omega⟩, ly_part hd hc hi hn sr nx js⟩,
    fun _ => ⟨⟨by omega, by omega, by omega, by omega, by omega, by omega⟩, ly_rule hd hc hi hn sr nx js⟩,
    fun _ => ⟨⟨by omega, by omega, by omega, by omega⟩, ly_best hd hc hi hn sr nx js⟩,
    fun _ => ⟨⟨by omega, by omega, by omega, by omega⟩, ly_ends hd hc hi hn sr nx js⟩,
    fun _ => ⟨⟨by omega, by omega, by omega, by omega⟩, ⟨fun z => ly_hand0 hd hc hi hn sr nx js z, fun z => ly_hand1 hd hc hi hn sr nx js z⟩⟩,
    fun _ => ⟨⟨by omega, by omega, by omega, by omega⟩, ly_machine hd hc hi hn sr nx js⟩,
    fun _ => ⟨⟨by omega, by omega, by omega, by omega, by omega, by omega⟩, ly_brass hd hc hi hn sr nx js⟩,
    fun _ => ⟨⟨by omega, by omega, by omega, by omega⟩, ⟨fun z => ly_broken0 hd hc hi hn sr nx js z, fun z => ly_broken1 hd hc hi hn sr nx js z⟩⟩,
    fun _ => ⟨⟨by omega, by omega, by omega, by omega⟩, ly_give hd hc hi hn sr nx js⟩,
    fun _ => ⟨⟨by omega, by omega⟩, ly_minutes hd hc hi hn sr nx js⟩,
    fun _ => ⟨⟨by omega, by omega, by omega, by omega⟩, ly_runs hd hc hi hn sr nx js⟩,
    fun _ => ⟨⟨by omega, by omega, by omega, by omega⟩, ly_slug hd hc hi hn sr nx js⟩,
    fun _ => ⟨⟨by omega, by omega, by omega, by omega⟩, ly_says hd hc hi hn sr nx js⟩,
    fun _ => ⟨⟨by omega, by omega, by omega, by omega⟩, ly_lies hd hc hi hn sr nx js⟩,
    fun _ => ⟨⟨by omega, by omega⟩, ly_judge hd hc hi hn sr nx js⟩,
    fun _ => ⟨⟨by omega, by omega⟩, ly_pie hd hc hi hn sr nx js⟩,
    fun _ => ⟨⟨by omega, by omega, by omega, by omega⟩, ly_change hd hc hi hn sr nx js⟩,
    fun _ => ⟨⟨by omega, by omega, by omega, by omega, by omega, by omega⟩, ly_again hd hc hi hn sr nx js⟩,
    fun _ => ⟨⟨by omega, by omega, by omega, by omega, by omega, by omega⟩, ly_correct hd hc hi hn sr nx js⟩,
    fun _ => ⟨⟨by omega, by omega, by omega, by omega, by omega, by omega⟩, ly_slip hd hc hi hn sr nx js⟩,
    fun _ => ⟨⟨by omega, by omega, by omega, by omega⟩, ly_read hd hc hi hn sr nx js⟩,
    fun _ => ⟨⟨by omega, by omega⟩, ly_proof hd hc hi hn sr nx js⟩,
    fun _ => ⟨⟨by omega, by omega, by omega, by omega, by omega, by omega⟩, ly_carry hd hc hi hn sr nx js⟩,
    fun _ => ⟨⟨by omega, by omega, by omega, by omega, by omega, by omega⟩, ly_where hd hc hi hn sr nx js⟩,
    fun _ => ⟨⟨by omega, by omega, by omega, by omega, by omega, by omega⟩, ly_page hd hc hi hn sr nx js⟩,
    fun _ => ⟨⟨by omega, by omega, by omega, by omega⟩, ly_fit hd hc hi hn sr nx js⟩,
    fun _ => ⟨⟨by omega, by omega, by omega, by omega, by omega, by omega, by omega, by omega⟩, ⟨fun z => ly_fits0 hd hc hi hn sr nx js z, fun z => ly_fits1 hd hc hi hn sr nx js z⟩⟩,
    fun _ => ⟨⟨by omega, by omega, by omega, by omega⟩, ly_lock hd hc hi hn sr nx js⟩,
    fun _ => ⟨⟨by omega, by omega, by omega, by omega⟩, ly_locked hd hc hi hn sr nx js⟩,
    fun _ => ⟨⟨by omega, by omega, by omega, by omega, by omega, by omega⟩, ly_stands hd hc hi hn sr nx js⟩,
    fun _ => ly_edition hd hc hi hn sr nx js,
    fun _ => ⟨⟨by omega, by omega, by omega, by omega, by omega, by omega⟩, ly_changed hd hc hi hn sr nx js⟩,
    fun _ => ⟨t3, ly_least hd hc hi hn sr nx js⟩,
    fun _ => ⟨⟨by omega, by omega⟩, ly_ahead hd hc hi hn sr nx js⟩,
    fun _ => ⟨⟨by omega, by omega, by omega, by omega, by omega, by omega⟩, ly_pay hd hc hi hn sr nx js⟩,
    fun _ => ⟨⟨by omega, by omega, by omega, by omega⟩, ly_row hd hc hi hn sr nx js⟩,
    fun _ => ⟨⟨by omega, by omega, by omega, by omega, by omega, by omega⟩, ly_tear hd hc hi hn sr nx js⟩,
    fun _ => ⟨t3, ly_check hd hc hi hn sr nx js⟩,
    fun _ => ⟨t3, ly_image hd hc hi hn sr nx js⟩,
    fun _ => ⟨t3, ly_back hd hc hi hn sr nx js⟩,
    fun _ => ⟨⟨by omega, by omega⟩, ⟨t3, ly_count hd hc hi hn sr nx js⟩⟩, fun _ => ⟨by omega, nx _ _ _ (JS_up js)⟩⟩
end
