section
/-! ===== FlameTree: constants ===== -/
theorem ft_c0 : (0 : Int32).toNatClampNeg = 0 := by decide
theorem ft_c1 : (1 : Int32).toNatClampNeg = 1 := by decide
theorem ft_n0 : vp_in 0 321 := vp_in_iff.mpr (by decide)
theorem ft_n1 : vp_in 1 321 := vp_in_iff.mpr (by decide)
theorem ft_s0 : vp_in 0 8 := vp_in_iff.mpr (by decide)
/-- a function's number; a sample's weight; the least weight that is asked for -/
abbrev ft_F (x : Int32) : Prop := ¬ x < 0 ∧ ¬ 7 < x
abbrev ft_W (x : Int32) : Prop := ¬ x < 1 ∧ ¬ 100 < x
theorem ft_ne {x : Int32} (h : ft_F x) : ¬ (-1 : Int32) = x := fun e => h.1 (by rw [← e]; decide)
theorem ft_isT {post : Int32 → Prop} {x : Int32} (hx : ft_F x) (h : post 1) : wpX_isFunction post () x := br_f hx.1 (br_f hx.2 h)
theorem ft_isF {post : Int32 → Prop} {x : Int32} (hx : ¬ ft_F x) (h : post 0) : wpX_isFunction post () x :=
  br_c (fun _ => h) (fun h0 => br_c (fun _ => h) (fun h7 => absurd ⟨h0, h7⟩ hx))
/-! ===== the methods, each on the few states that the law comes to ===== -/
section
variable {post : Int32 → Prop} {d sm n : Int32} {a1 a2 a3 a4 a5 a6 a7 : Nat → Int32}
theorem ft_cw0 {g : Int32} (h4 : a4 0 = 0) (h : post 0) : wpX_childWith post (d, sm, n, a1, a2, a3, a4, a5, a6, a7) 0 g :=
  ⟨ft_n0, nm_r (e' := 0) (by rw [ft_c0]; exact h4) ⟨1, br_t (by decide) h⟩⟩
theorem ft_cw1 {g : Int32} (h4 : a4 0 = 1) (h2 : a2 1 = g) (h : post 1) : wpX_childWith post (d, sm, n, a1, a2, a3, a4, a5, a6, a7) 0 g :=
  ⟨ft_n0, nm_r (e' := 1) (by rw [ft_c0]; exact h4) ⟨1, br_f (by decide) ⟨ft_n1, br_t (by rw [ft_c1]; exact h2) h⟩⟩⟩
theorem ft_ns0 (h : post 0) : wpX_nodeOfStack post (0, sm, n, a1, a2, a3, a4, a5, a6, a7) := ⟨1, br_t (by decide) h⟩
theorem ft_nsN (h4 : a4 0 = 0) (h : post (-1)) : wpX_nodeOfStack post (1, sm, n, a1, a2, a3, a4, a5, a6, a7) :=
  ⟨1, br_f (by decide) ⟨ft_s0, ft_cw0 h4 (br_t rfl h)⟩⟩
theorem ft_ns1 (h4 : a4 0 = 1) (h2 : a2 1 = a1 0) (h : post 1) : wpX_nodeOfStack post (1, sm, n, a1, a2, a3, a4, a5, a6, a7) :=
  ⟨2, br_f (by decide) ⟨ft_s0, ft_cw1 h4 (by rw [ft_c0]; exact h2) (br_f (by decide) (nm_r (e' := 1) rfl (br_t (by decide) h)))⟩⟩
theorem ft_own0 (h : post (a6 0)) : wpX_own post (0, sm, n, a1, a2, a3, a4, a5, a6, a7) := by
  unfold wpX_own
  exact ft_ns0 (br_t (by decide) ⟨ft_n0, h⟩)
theorem ft_ownN (h4 : a4 0 = 0) (h : post 0) : wpX_own post (1, sm, n, a1, a2, a3, a4, a5, a6, a7) := by
  unfold wpX_own
  exact ft_nsN h4 (br_f (by decide) h)
theorem ft_own1 (h4 : a4 0 = 1) (h2 : a2 1 = a1 0) (h : post (a6 1)) : wpX_own post (1, sm, n, a1, a2, a3, a4, a5, a6, a7) := by
  unfold wpX_own
  exact ft_ns1 h4 h2 (br_t (by decide) ⟨ft_n1, h⟩)
theorem ft_tot0 (h : post (a7 0)) : wpX_total post (0, sm, n, a1, a2, a3, a4, a5, a6, a7) := by
  unfold wpX_total
  exact ft_ns0 (br_t (by decide) ⟨ft_n0, h⟩)
theorem ft_hotN (h4 : a4 0 = 0) (h : post (-1)) : wpX_hottest post (0, sm, n, a1, a2, a3, a4, a5, a6, a7) := by
  unfold wpX_hottest
  exact ft_ns0 (br_f (by decide) (br_f (by decide) ⟨ft_n0, nm_r (e' := 0) (by rw [ft_c0]; exact h4) ⟨1, br_t (by decide) (br_t rfl h)⟩⟩))
theorem ft_hot1 (h4 : a4 0 = 1) (h5 : a5 1 = 0) (h : post (a2 1)) : wpX_hottest post (0, sm, n, a1, a2, a3, a4, a5, a6, a7) := by
  have K : ∀ z, wX_hottest_83 post (wX_hottest_29 post 0 sm n a1 a2 a3 a4 a5 a6 a7 1) 0 1 z 0 sm n a1 a2 a3 a4 a5 a6 a7 := fun z =>
    br_t rfl ⟨ft_n1, nm_r (e' := 0) (by rw [ft_c1]; exact h5) (br_t (by decide) (br_f (by decide) ⟨ft_n1, h⟩))⟩
  unfold wpX_hottest
  exact ft_ns0 (br_f (by decide) (br_f (by decide) ⟨ft_n0, nm_r (e' := 1) (by rw [ft_c0]; exact h4) ⟨2, br_f (by decide) ⟨ft_n1, ft_n0, br_c (fun _ => K 1) (fun _ => ⟨ft_n1, ft_n0, br_c (fun _ => ⟨ft_n1, ft_n0, br_c (fun _ => K 0) (fun _ => K 1)⟩) (fun _ => K 0)⟩)⟩⟩⟩))
theorem ft_sa {c g : Int32} (h3 : a3 1 = 0) (h : post 0) : wpX_standsAbove post (d, sm, n, a1, a2, a3, a4, a5, a6, a7) 1 c g :=
  ⟨ft_n1, nm_r (e' := 0) (by rw [ft_c1]; exact h3) ⟨1, br_f (by decide) (br_t (by decide) h)⟩⟩
theorem ft_incF {x : Int32} (hx : ¬ ft_F x) (h : post (-1)) : wpX_inclusive post (d, sm, n, a1, a2, a3, a4, a5, a6, a7) x := by
  unfold wpX_inclusive
  exact ft_isF hx (br_t rfl h)
theorem ft_incN {x : Int32} (hx : ft_F x) (h : post 0) : wpX_inclusive post (d, sm, 1, a1, a2, a3, a4, a5, a6, a7) x := by
  unfold wpX_inclusive
  exact ft_isT hx (br_f (by decide) ⟨1, br_t (by decide) h⟩)
theorem ft_incE {x : Int32} (hx : ft_F x) (h2 : a2 1 = x) (h3 : a3 1 = 0) (h : post (a7 1)) : wpX_inclusive post (d, sm, 2, a1, a2, a3, a4, a5, a6, a7) x := by
  unfold wpX_inclusive
  exact ft_isT hx (br_f (by decide) ⟨2, br_f (by decide) ⟨ft_n1, br_t (by rw [ft_c1]; exact h2) (ft_sa h3 (br_t rfl ⟨ft_n1, nm_r (e' := a7 1) (by rw [ft_c1, Int32.zero_add]) (nm_r (e' := 2) rfl (br_t (by decide) h))⟩))⟩⟩)
theorem ft_incO {x : Int32} (hx : ft_F x) (h2 : ¬ a2 1 = x) (h : post 0) : wpX_inclusive post (d, sm, 2, a1, a2, a3, a4, a5, a6, a7) x := by
  unfold wpX_inclusive
  exact ft_isT hx (br_f (by decide) ⟨2, br_f (by decide) ⟨ft_n1, br_f (by rw [ft_c1]; exact h2) (nm_r (e' := 0) rfl (nm_r (e' := 2) rfl (br_t (by decide) h)))⟩⟩)
theorem ft_edF {x y : Int32} (hx : ¬ (ft_F x ∧ ft_F y)) (h : post (-1)) : wpX_edge post (d, sm, n, a1, a2, a3, a4, a5, a6, a7) x y := by
  unfold wpX_edge
  by_cases g : ft_F x
  · exact ft_isT g (br_f (by decide) (ft_isF (fun g2 => hx ⟨g, g2⟩) (br_t rfl h)))
  · exact ft_isF g (br_t rfl h)
theorem ft_edN {x y : Int32} (hx : ft_F x) (hy : ft_F y) (h : post 0) : wpX_edge post (d, sm, 1, a1, a2, a3, a4, a5, a6, a7) x y := by
  unfold wpX_edge
  exact ft_isT hx (br_f (by decide) (ft_isT hy (br_f (by decide) ⟨1, br_t (by decide) h⟩)))
theorem ft_ed1 {x y : Int32} (hx : ft_F x) (hy : ft_F y) (h0 : a2 0 = -1) (h3 : a3 1 = 0) (h : post 0) : wpX_edge post (d, sm, 2, a1, a2, a3, a4, a5, a6, a7) x y := by
  have K : wX_edge_61 post (wX_edge_21 post x y d sm 2 a1 a2 a3 a4 a5 a6 a7 1) x y 0 1 d sm 2 a1 a2 a3 a4 a5 a6 a7 :=
    br_t rfl (nm_r (e' := 0) rfl (nm_r (e' := 2) rfl (br_t (by decide) h)))
  unfold wpX_edge
  exact ft_isT hx (br_f (by decide) (ft_isT hy (br_f (by decide) ⟨2, br_f (by decide) ⟨ft_n1, br_c (fun _ => ⟨ft_n1, by rw [ft_c1, h3]; exact ft_n0, br_f (by rw [ft_c1, h3, ft_c0, h0]; exact ft_ne hx) K⟩) (fun _ => K)⟩⟩)))
theorem ft_paN {x : Int32} (h : post 0) : wpX_paths post (d, sm, 1, a1, a2, a3, a4, a5, a6, a7) x :=
  br_c (fun _ => ⟨1, br_t (by decide) h⟩) (fun _ => ⟨1, br_t (by decide) h⟩)
theorem ft_paL {x : Int32} (hf : a7 1 < x → post 0) (ht : ¬ a7 1 < x → post 1) : ∃ fu, wX_paths_16 post x d sm 2 a1 a2 a3 a4 a5 a6 a7 fu 0 1 :=
  ⟨2, br_f (by decide) ⟨ft_n1, br_c (fun g => nm_r (e' := 0) rfl (nm_r (e' := 2) rfl (br_t (by decide) (hf (by rw [ft_c1] at g; exact g))))) (fun g => nm_r (e' := 1) rfl (nm_r (e' := 2) rfl (br_t (by decide) (ht (by rw [ft_c1] at g; exact g)))))⟩⟩
theorem ft_pa1 {x : Int32} (hf : a7 1 < (if 1 ≤ x then x else 1) → post 0) (ht : ¬ a7 1 < (if 1 ≤ x then x else 1) → post 1) : wpX_paths post (d, sm, 2, a1, a2, a3, a4, a5, a6, a7) x :=
  br_c (fun g => by rw [if_pos g] at hf ht; exact ft_paL hf ht) (fun g => by rw [if_neg g] at hf ht; exact ft_paL hf ht)
theorem ft_do {h3 : a3 1 = 0} (h : post 1) : wpX_depthOf post (d, sm, n, a1, a2, a3, a4, a5, a6, a7) 1 :=
  ⟨2, br_f (by decide) (br_f (by decide) (nm_r (e' := 1) rfl ⟨ft_n1, nm_r (e' := 0) (by rw [ft_c1]; exact h3) (nm_r (e' := 1) rfl (br_f (by decide) (br_t (by decide) h)))⟩))⟩
theorem ft_deN {x : Int32} (h : post 0) : wpX_deepest post (d, sm, 1, a1, a2, a3, a4, a5, a6, a7) x :=
  br_c (fun _ => ⟨1, br_t (by decide) h⟩) (fun _ => ⟨1, br_t (by decide) h⟩)
theorem ft_deL {x : Int32} (h3 : a3 1 = 0) (hf : a7 1 < x → post 0) (ht : ¬ a7 1 < x → post 1) : ∃ fu, wX_deepest_16 post x d sm 2 a1 a2 a3 a4 a5 a6 a7 fu 0 1 :=
  ⟨2, br_f (by decide) ⟨ft_n1, br_c (fun g => br_t (by decide) (nm_r (e' := 2) rfl (br_t (by decide) (hf (by rw [ft_c1] at g; exact g))))) (fun g => ft_do (h3 := h3) (br_f (by decide) (nm_r (e' := 2) rfl (br_t (by decide) (ht (by rw [ft_c1] at g; exact g))))))⟩⟩
theorem ft_de1 {x : Int32} (h3 : a3 1 = 0) (hf : a7 1 < (if 1 ≤ x then x else 1) → post 0) (ht : ¬ a7 1 < (if 1 ≤ x then x else 1) → post 1) : wpX_deepest post (d, sm, 2, a1, a2, a3, a4, a5, a6, a7) x :=
  br_c (fun g => by rw [if_pos g] at hf ht; exact ft_deL h3 hf ht) (fun g => by rw [if_neg g] at hf ht; exact ft_deL h3 hf ht)
end
/-! ===== the methods that store ===== -/
section
variable {post : Int32 → St2 → Prop} {d sm n : Int32} {a1 a2 a3 a4 a5 a6 a7 : Nat → Int32}
theorem ft_lv0 (h : post (-1) (0, sm, n, a1, a2, a3, a4, a5, a6, a7)) : wpX_leave post (0, sm, n, a1, a2, a3, a4, a5, a6, a7) := br_t rfl h
theorem ft_lv1 (h : post (a1 0) (0, sm, n, a1, a2, a3, a4, a5, a6, a7)) : wpX_leave post (1, sm, n, a1, a2, a3, a4, a5, a6, a7) :=
  br_f (by decide) (nm_r (e' := 0) rfl ⟨ft_s0, h⟩)
theorem ft_caF {x : Int32} (hx : ¬ ft_F x) (h : post (-1) (d, sm, n, a1, a2, a3, a4, a5, a6, a7)) : wpX_call post (d, sm, n, a1, a2, a3, a4, a5, a6, a7) x := by
  unfold wpX_call
  exact ft_isF hx (br_t rfl h)
theorem ft_caT {x : Int32} (hx : ft_F x) (h : post 1 (1, sm, n, upd a1 0 x, a2, a3, a4, a5, a6, a7)) : wpX_call post (0, sm, n, a1, a2, a3, a4, a5, a6, a7) x := by
  unfold wpX_call
  exact ft_isT hx (br_f (by decide) (br_t (by decide) ⟨ft_s0, nm_r (e' := upd a1 0 x) (by rw [ft_c0]) (nm_r (e' := 1) rfl h)⟩))
theorem ft_ac {g : Int32} (h : post 1 (d, sm, 2, a1, upd a2 1 g, upd a3 1 0, upd a4 0 1, upd a5 1 (a4 0), a6, a7)) : wpX_addChild post (d, sm, 1, a1, a2, a3, a4, a5, a6, a7) 0 g :=
  nm_r (e' := 2) rfl ⟨ft_n1, nm_r (e' := upd a2 1 g) (by rw [ft_c1]) ⟨ft_n1, nm_r (e' := upd a3 1 0) (by rw [ft_c1]) ⟨ft_n0, ft_n1, nm_r (e' := upd a5 1 (a4 0)) (by rw [ft_c1, ft_c0]) ⟨ft_n0, nm_r (e' := upd a4 0 1) (by rw [ft_c0]) h⟩⟩⟩⟩
theorem ft_smF {x : Int32} (hx : ¬ ft_W x) (h : post (-1) (d, sm, n, a1, a2, a3, a4, a5, a6, a7)) : wpX_sample post (d, sm, n, a1, a2, a3, a4, a5, a6, a7) x :=
  br_c (fun _ => h) (fun g => br_c (fun _ => h) (fun g2 => absurd ⟨g, g2⟩ hx))
theorem ft_sm0 {x : Int32} (hx : ft_W x) (h : post 1 (0, 1, n, a1, a2, a3, a4, a5, upd a6 0 (a6 0 + x), upd a7 0 (a7 0 + x))) : wpX_sample post (0, 0, n, a1, a2, a3, a4, a5, a6, a7) x :=
  br_f hx.1 (br_f hx.2 (br_t (by decide) (nm_e ⟨1, br_t (by decide) ⟨ft_n0, ft_n0, nm_r (e' := upd a6 0 (a6 0 + x)) (by rw [ft_c0]) (nm_r (e' := 1) rfl h)⟩⟩)))
theorem ft_sm1 {x : Int32} (hx : ft_W x) (h4 : a4 0 = 0)
    (h : post 1 (1, 1, 2, a1, upd a2 1 (a1 0), upd a3 1 0, upd a4 0 1, upd a5 1 (a4 0), upd a6 1 (a6 1 + x), upd (upd a7 0 (a7 0 + x)) 1 (upd a7 0 (a7 0 + x) 1 + x))) :
    wpX_sample post (1, 0, 1, a1, a2, a3, a4, a5, a6, a7) x := by
  refine br_f hx.1 (br_f hx.2 (br_t (by decide) (nm_e ⟨2, br_f (by decide) ⟨ft_s0, ft_cw0 h4 (br_t rfl ⟨ft_s0, ft_ac ?_⟩)⟩⟩)))
  rw [ft_c0]
  exact ⟨ft_n1, ft_n1, nm_r (e' := upd (upd a7 0 (a7 0 + x)) 1 (upd a7 0 (a7 0 + x) 1 + x)) (by rw [ft_c1]) (nm_r (e' := 1) rfl (br_t (by decide) ⟨ft_n1, ft_n1, nm_r (e' := upd a6 1 (a6 1 + x)) (by rw [ft_c1]) (nm_r (e' := 1) rfl h)⟩))⟩
end
end
section
/-! ===== the law behind the sample, over what the methods answer ===== -/
theorem ft_tail {mc ms kc ks : Nat} {x0 x1 x2 x3 x5 x6 z d sm n : Int32} {a1 a2 a3 a4 a5 a6 a7 : Nat → Int32}
    (hown : ∃ v, (∀ post : Int32 → Prop, post v → wpX_own post (d, sm, n, a1, a2, a3, a4, a5, a6, a7)) ∧ (x6 = 0 → v = 0) ∧ (¬ x6 = 0 → v = x1))
    (hinc : ∃ v, (∀ post : Int32 → Prop, post v → wpX_inclusive post (d, sm, n, a1, a2, a3, a4, a5, a6, a7) x2) ∧ (¬ ft_F x2 → v = -1) ∧ (ft_F x2 → (x5 = 0 ∨ x6 = 0 ∨ ¬ x2 = x0) → v = 0) ∧ (ft_F x2 → ¬ x5 = 0 → ¬ x6 = 0 → x2 = x0 → v = x1))
    (hedg : ∃ v, (∀ post : Int32 → Prop, post v → wpX_edge post (d, sm, n, a1, a2, a3, a4, a5, a6, a7) x0 x2) ∧ (x5 = 0 ∨ ¬ ft_F x2 → v = -1) ∧ (¬ x5 = 0 → ft_F x2 → v = 0))
    (hpat : ∃ v, (∀ post : Int32 → Prop, post v → wpX_paths post (d, sm, n, a1, a2, a3, a4, a5, a6, a7) x3) ∧ (∀ post : Int32 → Prop, post v → wpX_deepest post (d, sm, n, a1, a2, a3, a4, a5, a6, a7) x3) ∧ (x5 = 0 ∨ x6 = 0 ∨ x1 < (if 1 ≤ x3 then x3 else 1) → v = 0) ∧ (¬ x5 = 0 → ¬ x6 = 0 → ¬ x1 < (if 1 ≤ x3 then x3 else 1) → v = 1))
    (hlea : ∃ v, (∀ post : Int32 → St2 → Prop, post v (0, sm, n, a1, a2, a3, a4, a5, a6, a7) → wpX_leave post (d, sm, n, a1, a2, a3, a4, a5, a6, a7)) ∧ (x5 = 0 → v = -1) ∧ (¬ x5 = 0 → v = x0))
    (htot : ∃ v, (∀ post : Int32 → Prop, post v → wpX_total post (0, sm, n, a1, a2, a3, a4, a5, a6, a7)) ∧ (x6 = 0 → v = 0) ∧ (¬ x6 = 0 → v = x1))
    (hhot : ∃ v, (∀ post : Int32 → Prop, post v → wpX_hottest post (0, sm, n, a1, a2, a3, a4, a5, a6, a7)) ∧ (x5 = 0 ∨ x6 = 0 → v = -1) ∧ (¬ x5 = 0 → ¬ x6 = 0 → v = x0)) :
    wL_lawOf_88 (fun r _ => r = 1) mc ms x0 x1 x2 x3 x5 x6 z z kc ks d sm n a1 a2 a3 a4 a5 a6 a7 := by
  obtain ⟨vo, ho, o0, o1⟩ := hown
  obtain ⟨vi, hi, i0, i1, i2⟩ := hinc
  obtain ⟨ve, he, e0, e1⟩ := hedg
  obtain ⟨vp, hp, hd, p0, p1⟩ := hpat
  obtain ⟨vl, hl, l0, l1⟩ := hlea
  obtain ⟨vt, ht, t0, t1⟩ := htot
  obtain ⟨vh, hh, h0, h1⟩ := hhot
  have t285 : ∀ z, vt = z → wL_lawOf_285 (fun r _ => r = 1) mc ms x0 x5 x6 z vt kc ks 0 sm n a1 a2 a3 a4 a5 a6 a7 := by
    intro z hz
    unfold wL_lawOf_285
    exact br_t hz (hh _ (br_c (fun h5 => br_t (h0 (Or.inl h5)) rfl) (fun h5 => br_c (fun h6 => br_t (h0 (Or.inr h6)) rfl) (fun h6 => br_t (h1 h5 h6) rfl))))
  have t265 : ∀ z, vl = z → wL_lawOf_265 (fun r _ => r = 1) mc ms x0 x1 x5 x6 z vl kc ks 0 sm n a1 a2 a3 a4 a5 a6 a7 := by
    intro z hz
    unfold wL_lawOf_265
    exact br_t hz (ht _ (br_c (fun h6 => t285 _ (t0 h6)) (fun h6 => t285 _ (t1 h6))))
  have t232 : ∀ z, vp = z → wL_lawOf_232 (fun r _ => r = 1) mc ms x0 x1 x3 x5 x6 z vp kc ks d sm n a1 a2 a3 a4 a5 a6 a7 := by
    intro z hz
    unfold wL_lawOf_232
    exact br_t hz (hd _ (hp _ (br_t rfl (hl _ (br_c (fun h5 => t265 _ (l0 h5)) (fun h5 => t265 _ (l1 h5)))))))
  have t203 : ∀ z, z = (if 1 ≤ x3 then x3 else 1) → wL_lawOf_203 (fun r _ => r = 1) mc ms x0 x1 x3 x5 x6 z kc ks d sm n a1 a2 a3 a4 a5 a6 a7 := by
    intro z hz
    rw [← hz] at p0 p1
    unfold wL_lawOf_203
    exact hp _ (br_c (fun h5 => t232 0 (p0 (Or.inl h5))) (fun h5 => br_c (fun h6 => t232 0 (p0 (Or.inr (Or.inl h6)))) (fun h6 => br_c (fun h => t232 0 (p0 (Or.inr (Or.inr h)))) (fun h => t232 1 (p1 h5 h6 h)))))
  have t188 : ∀ z, ve = z → wL_lawOf_188 (fun r _ => r = 1) mc ms x0 x1 x3 x5 x6 z ve kc ks d sm n a1 a2 a3 a4 a5 a6 a7 := by
    intro z hz
    unfold wL_lawOf_188
    exact br_t hz (br_c (fun h => t203 _ (if_pos h).symm) (fun h => t203 _ (if_neg h).symm))
  have t163 : ∀ x7 z, (x7 = 0 ∧ ¬ ft_F x2 ∨ x7 = 1 ∧ ft_F x2) → vi = z → wL_lawOf_163 (fun r _ => r = 1) mc ms x0 x1 x2 x3 x5 x6 x7 z vi kc ks d sm n a1 a2 a3 a4 a5 a6 a7 := by
    intro x7 z h7 hz
    unfold wL_lawOf_163
    refine br_t hz (he _ (br_c (fun h5 => t188 (-1) (e0 (Or.inl h5))) (fun h5 => ?_)))
    rcases h7 with ⟨g, hF⟩ | ⟨g, hF⟩
    · exact br_t g (t188 (-1) (e0 (Or.inr hF)))
    · exact br_f (by rw [g]; decide) (t188 0 (e1 h5 hF))
  have t126 : ∀ x7, (x7 = 0 ∧ ¬ ft_F x2 ∨ x7 = 1 ∧ ft_F x2) → wL_lawOf_126 (fun r _ => r = 1) mc ms x0 x1 x2 x3 x5 x6 x7 kc ks d sm n a1 a2 a3 a4 a5 a6 a7 := by
    intro x7 h7
    unfold wL_lawOf_126
    refine hi _ ?_
    rcases h7 with ⟨g, hF⟩ | ⟨g, hF⟩
    · exact br_t g (t163 x7 (-1) (Or.inl ⟨g, hF⟩) (i0 hF))
    · refine br_f (by rw [g]; decide) (br_c (fun h5 => ?_) (fun h5 => br_c (fun h6 => ?_) (fun h6 => br_c (fun e => ?_) (fun e => ?_))))
      · exact t163 x7 0 (Or.inr ⟨g, hF⟩) (i1 hF (Or.inl h5))
      · exact t163 x7 0 (Or.inr ⟨g, hF⟩) (i1 hF (Or.inr (Or.inl h6)))
      · exact t163 x7 x1 (Or.inr ⟨g, hF⟩) (i2 hF h5 h6 e)
      · exact t163 x7 0 (Or.inr ⟨g, hF⟩) (i1 hF (Or.inr (Or.inr e)))
  have t106 : ∀ z, vo = z → wL_lawOf_106 (fun r _ => r = 1) mc ms x0 x1 x2 x3 x5 x6 z vo kc ks d sm n a1 a2 a3 a4 a5 a6 a7 := by
    intro z hz
    unfold wL_lawOf_106
    exact br_t hz (br_c (fun g => t126 0 (Or.inl ⟨rfl, fun F => F.1 g⟩)) (fun g => br_c (fun g2 => t126 0 (Or.inl ⟨rfl, fun F => F.2 g2⟩)) (fun g2 => t126 1 (Or.inr ⟨rfl, g, g2⟩))))
  unfold wL_lawOf_88
  exact br_t rfl (ho _ (br_c (fun h6 => t106 _ (o0 h6)) (fun h6 => t106 _ (o1 h6))))
/-! ===== the states that the law comes to behind the sample ===== -/
section
variable {mc ms kc ks : Nat} {x0 x1 x2 x3 x6 z sm : Int32} {a1 a2 a3 a4 a5 a6 a7 : Nat → Int32}
/-- no call was made: nothing but the root, which holds v -/
theorem ft_N0 {v : Int32} (hF : ¬ ft_F x0) (h4 : a4 0 = 0) (h6 : a6 0 = v) (h7 : a7 0 = v) (v0 : x6 = 0 → v = 0) (v1 : ¬ x6 = 0 → v = x1) :
    wL_lawOf_88 (fun r _ => r = 1) mc ms x0 x1 x2 x3 0 x6 z z kc ks 0 sm 1 a1 a2 a3 a4 a5 a6 a7 := by
  refine ft_tail ⟨v, fun post h => ft_own0 (by rw [h6]; exact h), v0, v1⟩ ?_
    ⟨-1, fun post h => ft_edF (fun g => hF g.1) h, fun _ => rfl, fun g => absurd rfl g⟩
    ⟨0, fun post h => ft_paN h, fun post h => ft_deN h, fun _ => rfl, fun g => absurd rfl g⟩
    ⟨-1, fun post h => ft_lv0 h, fun _ => rfl, fun g => absurd rfl g⟩
    ⟨v, fun post h => ft_tot0 (by rw [h7]; exact h), v0, v1⟩
    ⟨-1, fun post h => ft_hotN h4 h, fun _ => rfl, fun g => absurd rfl g⟩
  by_cases hx : ft_F x2
  · exact ⟨0, fun post h => ft_incN hx h, fun g => absurd hx g, fun _ _ => rfl, fun _ g => absurd rfl g⟩
  · exact ⟨-1, fun post h => ft_incF hx h, fun _ => rfl, fun g => absurd g hx, fun g => absurd g hx⟩
/-- a call was made, no sample taken -/
theorem ft_N1 (hF : ft_F x0) (h1 : a1 0 = x0) (h4 : a4 0 = 0) (h7 : a7 0 = 0) :
    wL_lawOf_88 (fun r _ => r = 1) mc ms x0 x1 x2 x3 1 0 z z kc ks 1 sm 1 a1 a2 a3 a4 a5 a6 a7 := by
  refine ft_tail ⟨0, fun post h => ft_ownN h4 h, fun _ => rfl, fun g => absurd rfl g⟩ ?_ ?_
    ⟨0, fun post h => ft_paN h, fun post h => ft_deN h, fun _ => rfl, fun _ g => absurd rfl g⟩
    ⟨x0, fun post h => ft_lv1 (by rw [h1]; exact h), fun g => absurd g (by decide), fun _ => rfl⟩
    ⟨0, fun post h => ft_tot0 (by rw [h7]; exact h), fun _ => rfl, fun g => absurd rfl g⟩
    ⟨-1, fun post h => ft_hotN h4 h, fun _ => rfl, fun _ g => absurd rfl g⟩
  · by_cases hx : ft_F x2
    · exact ⟨0, fun post h => ft_incN hx h, fun g => absurd hx g, fun _ _ => rfl, fun _ _ g => absurd rfl g⟩
    · exact ⟨-1, fun post h => ft_incF hx h, fun _ => rfl, fun g => absurd g hx, fun g => absurd g hx⟩
  · by_cases hx : ft_F x2
    · exact ⟨0, fun post h => ft_edN hF hx h, fun g => g.elim (fun g => absurd g (by decide)) (fun g => absurd hx g), fun _ _ => rfl⟩
    · exact ⟨-1, fun post h => ft_edF (fun g => hx g.2) h, fun _ => rfl, fun _ g => absurd g hx⟩
/-- a call was made, a sample taken: one node below the root -/
theorem ft_C (hF : ft_F x0) (h1 : a1 0 = x0) (h20 : a2 0 = -1) (h21 : a2 1 = x0) (h3 : a3 1 = 0) (h4 : a4 0 = 1) (h5 : a5 1 = 0) (h6 : a6 1 = x1) (h70 : a7 0 = x1) (h71 : a7 1 = x1) :
    wL_lawOf_88 (fun r _ => r = 1) mc ms x0 x1 x2 x3 1 1 z z kc ks 1 sm 2 a1 a2 a3 a4 a5 a6 a7 := by
  refine ft_tail ⟨x1, fun post h => ft_own1 h4 (by rw [h21, h1]) (by rw [h6]; exact h), fun g => absurd g (by decide), fun _ => rfl⟩ ?_ ?_ ?_
    ⟨x0, fun post h => ft_lv1 (by rw [h1]; exact h), fun g => absurd g (by decide), fun _ => rfl⟩
    ⟨x1, fun post h => ft_tot0 (by rw [h70]; exact h), fun g => absurd g (by decide), fun _ => rfl⟩
    ⟨x0, fun post h => ft_hot1 h4 h5 (by rw [h21]; exact h), fun g => absurd g (by decide), fun _ _ => rfl⟩
  · by_cases hx : ft_F x2
    · by_cases e : x2 = x0
      · exact ⟨x1, fun post h => ft_incE hx (by rw [h21, e]) h3 (by rw [h71]; exact h), fun g => absurd hx g, fun _ g => g.elim (fun g => absurd g (by decide)) (fun g => g.elim (fun g => absurd g (by decide)) (fun g => absurd e g)), fun _ _ _ _ => rfl⟩
      · exact ⟨0, fun post h => ft_incO hx (by rw [h21]; exact fun g => e g.symm) h, fun g => absurd hx g, fun _ _ => rfl, fun _ _ _ g => absurd g e⟩
    · exact ⟨-1, fun post h => ft_incF hx h, fun _ => rfl, fun g => absurd g hx, fun g => absurd g hx⟩
  · by_cases hx : ft_F x2
    · exact ⟨0, fun post h => ft_ed1 hF hx h20 h3 h, fun g => g.elim (fun g => absurd g (by decide)) (fun g => absurd hx g), fun _ _ => rfl⟩
    · exact ⟨-1, fun post h => ft_edF (fun g => hx g.2) h, fun _ => rfl, fun _ g => absurd g hx⟩
  · by_cases hl : x1 < (if 1 ≤ x3 then x3 else 1)
    · exact ⟨0, fun post h => ft_pa1 (fun _ => h) (fun g => absurd (by rw [h71]; exact hl) g), fun post h => ft_de1 h3 (fun _ => h) (fun g => absurd (by rw [h71]; exact hl) g), fun _ => rfl, fun _ _ g => absurd hl g⟩
    · exact ⟨1, fun post h => ft_pa1 (fun g => absurd (by rw [h71] at g; exact g) hl) (fun _ => h), fun post h => ft_de1 h3 (fun g => absurd (by rw [h71] at g; exact g) hl) (fun _ => h), fun g => g.elim (fun g => absurd g (by decide)) (fun g => g.elim (fun g => absurd g (by decide)) (fun g => absurd g hl)), fun _ _ _ => rfl⟩
end
/-! ===== the law's head ===== -/
theorem ft_42 {mc ms kc ks : Nat} {x0 x1 x2 x3 x5 x6 : Int32} (h5 : x5 = 0 ∧ ¬ ft_F x0 ∨ x5 = 1 ∧ ft_F x0) (h6 : x6 = 0 ∧ ¬ ft_W x1 ∨ x6 = 1 ∧ ft_W x1) :
    wL_lawOf_42 (fun r _ => r = 1) mc ms x0 x1 x2 x3 x5 x6 kc ks 0 0 1 (fun _ => 0) (upd (fun _ => 0) 0 (-1)) (fun _ => 0) (fun _ => 0) (fun _ => 0) (fun _ => 0) (fun _ => 0) := by
  unfold wL_lawOf_42
  refine ft_lv0 (br_t rfl ?_)
  rcases h5 with ⟨e5, hF⟩ | ⟨e5, hF⟩
  · subst e5
    refine ft_caF hF (br_t rfl ?_)
    unfold wL_lawOf_69
    refine br_t rfl ?_
    rcases h6 with ⟨e6, hW⟩ | ⟨e6, hW⟩
    · subst e6
      exact ft_smF hW (br_t rfl (ft_N0 (v := 0) hF rfl rfl rfl (fun _ => rfl) (fun g => absurd rfl g)))
    · subst e6
      exact ft_sm0 hW (br_f (by decide) (ft_N0 (v := x1) hF rfl (by rw [pk_us, Int32.zero_add]) (by rw [pk_us, Int32.zero_add]) (fun g => absurd g (by decide)) (fun _ => rfl)))
  · subst e5
    refine ft_caT hF (br_f (by decide) ?_)
    unfold wL_lawOf_69
    refine br_t rfl ?_
    rcases h6 with ⟨e6, hW⟩ | ⟨e6, hW⟩
    · subst e6
      exact ft_smF hW (br_t rfl (ft_N1 hF pk_us rfl rfl))
    · subst e6
      refine ft_sm1 hW rfl (br_f (by decide) (ft_C hF pk_us ?_ ?_ ?_ ?_ ?_ ?_ ?_ ?_))
      · rw [pk_un (by decide), pk_us]
      · rw [pk_us, pk_us]
      · rw [pk_us]
      · rw [pk_us]
      · rw [pk_us]
      · rw [pk_us, Int32.zero_add]
      · rw [pk_un (by decide), pk_us, Int32.zero_add]
      · rw [pk_us, pk_un (by decide), Int32.zero_add]
theorem ft_24 {mc ms kc ks : Nat} {x0 x1 x2 x3 x5 : Int32} (h5 : x5 = 0 ∧ ¬ ft_F x0 ∨ x5 = 1 ∧ ft_F x0) :
    wL_lawOf_24 (fun r _ => r = 1) mc ms x0 x1 x2 x3 x5 kc ks 0 0 1 (fun _ => 0) (upd (fun _ => 0) 0 (-1)) (fun _ => 0) (fun _ => 0) (fun _ => 0) (fun _ => 0) (fun _ => 0) := by
  unfold wL_lawOf_24
  exact br_c (fun g => ft_42 h5 (Or.inl ⟨rfl, fun W => W.1 g⟩)) (fun g => br_c (fun g2 => ft_42 h5 (Or.inl ⟨rfl, fun W => W.2 g2⟩)) (fun g2 => ft_42 h5 (Or.inr ⟨rfl, g, g2⟩)))
theorem ft_lawOf (x0 x1 x2 x3 : Int32) : wpL_lawOf (fun r _ => r = 1) 8 1944 () x0 x1 x2 x3 := by
  refine ⟨by omega, by omega, 7, 1934, by omega, by omega, by omega, by omega, by omega, by omega, by omega, by omega, by omega, by omega, by omega, by omega, by omega, by omega, by omega, by omega, nm_e ?_⟩
  exact br_c (fun g => ft_24 (Or.inl ⟨rfl, fun F => F.1 g⟩)) (fun g => br_c (fun g2 => ft_24 (Or.inl ⟨rfl, fun F => F.2 g2⟩)) (fun g2 => ft_24 (Or.inr ⟨rfl, g, g2⟩)))
theorem ft_cell {post : Int32 → Prop} {L : Nat} {xs : Nat → Int32} (k : Nat) (hL : L ≤ 4) (hk : k < 4) (h : ∀ r, post r) : wpL_cellAt post L xs () (nI k) :=
  pk_le L k (fun _ => h _) (fun g => ⟨pk_in k L g, h _⟩)
theorem i_vc (xs : Nat → Int32) (L : Nat) (hL : L ≤ 4) : wpL_law (fun r => r = 1) L xs := by
  unfold wpL_law
  refine ft_cell 0 hL (by decide) (fun r1 => ft_cell 1 hL (by decide) (fun r2 => ft_cell 2 hL (by decide) (fun r3 => ft_cell 3 hL (by decide) (fun r4 => ?_))))
  exact ⟨8, 1944, by omega, by omega, ft_lawOf r1 r2 r3 r4⟩
end
