/-! LAYER 2: a coroutine that waits is resumed -/
theorem CO_166 {S : SR} {K : Int32 → Int32 → Int32 → Prop} {q : Int} {w : WD} {xf : Int32 → List Int32} {c d : Int32} {rest : PL2} {σ μ : mS} (H : ME S K q w xf c d rest σ μ) : ∀ p, p ∈ wC w → 0 ≤ (sI μ 166 p.2).toInt := by
  intro p hp
  have z0 : (0 : Int32).toInt = 0 := rfl
  have W := H.1.1.1
  obtain ⟨_, _, _, _, h⟩ := H.2.2.2.2.1.1 p.1 p.2 hp
  rcases h with h | h | h | h
  · rcases BC_166 H.2.2.2.2.2.1 _ h with y | y
    · have := W.2.2.2.2.2 p.1 p.2 hp
      have e1 : p.1 = 0 := (Prod.mk.inj y).1
      exfalso; lia
    · have y' : sI μ 166 p.2 = 0 := y
      rw [y', z0]; omega
  · rw [h.2.2.2.1, z0]; omega
  · rw [h.2.2.2.2.2.1, z0]; omega
  · have := h.2.2.2.2.2.1
    rw [tI_le, z0] at this; exact this
theorem sum_ge {l : PL2} {f : Int32 × Int32 → Int} {p : Int32 × Int32} (hp : p ∈ l) (h : ∀ x, x ∈ l → 0 ≤ f x) : f p ≤ (l.map f).sum ∧ 0 ≤ (l.map f).sum := by
  induction l with
  | nil => exact absurd hp (by simp)
  | cons a l ih =>
    have ha := h a List.mem_cons_self
    have hl : 0 ≤ (l.map f).sum := by
      clear ih hp
      induction l with
      | nil => simp
      | cons b l ih =>
        have := h b (List.mem_cons_of_mem _ List.mem_cons_self)
        have i := ih (fun x hx => by
          rcases List.mem_cons.mp hx with r | r
          · exact h x (by rw [r]; exact List.mem_cons_self)
          · exact h x (List.mem_cons_of_mem _ (List.mem_cons_of_mem _ r)))
        simp only [List.map_cons, List.sum_cons]; omega
    simp only [List.map_cons, List.sum_cons]
    rcases List.mem_cons.mp hp with r | r
    · rw [r]; omega
    · have := (ih r (fun x hx => h x (List.mem_cons_of_mem _ hx))).1
      omega
theorem LK_k0 {σ : mS} {ff : Int32 → Nat → Int32} {k0 : Int32} : ∀ {fl : List Int32} {n : Int32}, LK σ ff k0 fl n → ∀ k, k0 ≤ k → k < n → ff k 0 = 0 ∨ ff k 0 = 1
  | [], n, h, k, h0, h1 => by
    have : n = k0 := h
    exfalso; lia
  | f :: fl, n, h, k, h0, h1 => by
    obtain ⟨l1, _, l3, l4⟩ := h
    by_cases q : k = n - 1
    · rw [q]; rcases l3 with r | r; exact .inr r.2; exact .inl r.2.1
    · exact LK_k0 l4 k h0 (by lia)
theorem resK_2 {e : EV} (E : EVok e) {M : Nat} {F : Int32} (GF : GFst e M F 200 200) {w : WD} {xf : Int32 → List Int32} {c d a b p n wr kd : Int32} {rest : PL2} {ct : CT} {σ μ : mS} (H : CL e w xf c d rest ct σ μ) (hp : p = ct.2.2.2.1) (g399 : sF σ 399 = n) (n0 : 0 ≤ n) (n1 : n ≤ 100) (g190 : sF μ 190 = n) (gv : ∀ k, 0 ≤ k → k < n → VV w (sI σ 397 k) (sJ σ 398 k) (sI μ 188 k) (sJ μ 189 k)) (top : sF μ 143 = p) (hC : (a, b) ∈ wC w) (z : sI σ 323 a = 0) (v3 : sI σ 324 a = 0) (v4 : sI μ 159 b = 1) (v5 : FL (eS e) w σ (kff μ b) (kpt μ b) (kpv μ b) 4 0 0 (xf a) (sI μ 166 b) (sI σ 332 a, sI σ 333 a, sI σ 334 a, sI μ 167 b, sI μ 168 b, sI μ 169 b)) (v6 : sI μ 167 b = sI μ 164 b) (v7 : 0 ≤ sI μ 166 b) (ho : sF σ 358 < 200) (hF : sF σ 396 = F) (hwr : (wr = 0 ∧ kd = 2) ∨ (wr = 1 ∧ kd = 3)) (T : ty_xx6_begin) (T' : ty_call) : G2 e 1000 (M + 1) (bxx6_resume (eN e) T σ a wr ct.1 ct.2.1 ct.2.2.1) (mb_goOn (eN e) T' μ b kd p ct.2.2.2.2.1 ct.2.2.2.2.2) := by
  have hN := EV_N E
  have bb := CL_b H
  have f406 := CL_0 H
  have cc := ME_c H.1
  have W := H.1.1.1.1
  rw [← hp] at bb
  obtain ⟨s1, ⟨a0, a1, b0, b1⟩, _⟩ := CL_state H (.inl hC)
  have w6 := W.2.2.2.2.2 a b hC
  have now : sF σ 339 = c ∧ sF μ 172 = d := ⟨H.1.2.2.2.2.2.2.1.1, H.1.2.2.2.2.2.2.1.2.1⟩
  have hw01 : wr = 0 ∨ wr = 1 := hwr.imp And.left And.left
  have kd8 : 0 ≤ kd ∧ kd ≤ 8 := by rcases hwr with ⟨_, rfl⟩ | ⟨_, rfl⟩ <;> decide
  have c0 : 0 ≤ sF μ 154 := by lia
  -- bounds
  have calls : sF μ 154 + sI μ 166 b ≤ 200 ∧ sI μ 166 b ≤ 200 := by
    have s := (sum_ge (f := fun x => (sI μ 166 x.2).toInt) hC (CO_166 H.1)).1
    obtain ⟨o1, o2, o3, o4, o5⟩ := H.1.2.2.2.2.2.2.2.2.1
    simp only [kSum] at o5
    rw [← o1] at o5
    have x1 : (sF σ 358).toInt ≤ 200 := by rw [tI_le] at o3; exact o3
    have x2 : 0 ≤ (sF μ 154).toInt := by rw [tI_le] at c0; exact c0
    have x3 : 0 ≤ (sI μ 166 b).toInt := by rw [tI_le] at v7; exact v7
    simp only at s
    have x4 : sI μ 166 b ≤ 200 := by rw [tI_le]; show _ ≤ (200 : Int); omega
    refine ⟨?_, x4⟩
    rw [tI_le, tI_ad c0 (by lia) v7 (by lia)]
    show _ ≤ (200 : Int); omega
  have pl := FL_pl2 v5 (by decide) calls.2 (by decide) (by decide)
  have pl0 := FL_pl v5 (by decide) calls.2 (by decide) (by decide)
  simp only at pl pl0
  have kb' := BC_kb H.1.2.2.2.2.2.1
  simp only at kb'
  have pl3 := FL_pl2 H.2.2 kb'.1 (ME_calls H.1).2.1 kb'.2.2.1 kb'.2.2.2.2
  rw [← hp] at pl3
  have sz : p + sI μ 164 b ≤ 462000 ∧ 0 ≤ sI μ 164 b ∧ sI μ 164 b ≤ 470000 := by
    rw [← v6]
    have q1 : p ≤ 2300 * sF μ 154 := by lia
    have q2 : sI μ 167 b ≤ 2300 * sI μ 166 b := by lia
    exact ⟨by lia, by lia, by lia⟩
  have s156 : sI μ 156 b = 0 := by rw [← s1]; exact z
  have w5 : wts μ b := ⟨by lia, by lia, (H.1.2.2.2.2.1.1 a b hC).2.2.2.1, s156, v4⟩
  obtain ⟨l1, l2, l3, l4⟩ := H.1.2.2.2.2.1.2.2.2.2.2
  obtain ⟨e1, e2, e3, e4, e5, e6⟩ := l3 b w5
  clear pl pl3 l3 l4
  rw [resX_e ho a0 a1 z now.1 cc.2.1 cc.2.2.1 hw01, resM_e b0 b1 s156 now.2 cc.2.2.2.1 cc.2.2.2.2.1 c0 (by lia) kd8.1 kd8.2, if_pos v3, if_neg (by rw [v4]; decide), top]
  obtain ⟨X1, X2, X3, ⟨X4, X5, X6, X7, X8⟩, X9, XA, XB, XC, XD⟩ := rsmX_p (σ := σ) (a := a) (c := c) (wr := wr) (md := ct.1) (rg := ct.2.1) (wt := ct.2.2.1) a0 cc.2.1
  obtain ⟨Y1, Y2, Y3, Y4, ⟨Y5, Y6, Y7⟩, ⟨Y8, Y9, YA⟩, YB, YC, ⟨YD, YE, YF, YG⟩, YH⟩ := rsmM_p (μ := μ) (b := b) (d := d) (kd := kd) (p := p) (wn := ct.2.2.2.2.1) (th := ct.2.2.2.2.2) b0 cc.2.2.2.1 c0
  generalize rsmX a c wr ct.1 ct.2.1 ct.2.2.1 σ = σ1 at *
  generalize rsmM b d kd p ct.2.2.2.2.1 ct.2.2.2.2.2 μ = μ1 at *
  -- the system gives
  have cg : xx6_clearGives (eN e) σ1 = some (md_pi σ1 402 0) := by simp only [xx6_clearGives, lt]
  rw [cg]
  simp only [bd]
  obtain ⟨τ, x1, x2, x3, x4⟩ := rs278_lp (N := eN e) (T := T) (σ := md_pi σ1 402 0) (n := n) (a := a) a0 a1 (by simp only [sF_pi, sF_pl, sF_ai, sF_al, sG_pi, sG_pl, sG_ai, sG_al, sI_pi, sI_pl, sI_al, sI_ai1, sI_ai2, sJ_pi, sJ_pl, sJ_ai, sJ_al1, sJ_al2, Nat.reduceEqDiff, if_true, if_false, ne_eq, not_false_eq_true, ite_true, ite_false]; rw [XD 399 (by omega) (by omega)]; exact g399) n0 n1 (fun k k0 k1 => by
    simp only [sF_pi, sF_pl, sF_ai, sF_al, sG_pi, sG_pl, sG_ai, sG_al, sI_pi, sI_pl, sI_al, sI_ai1, sI_ai2, sJ_pi, sJ_pl, sJ_ai, sJ_al1, sJ_al2, Nat.reduceEqDiff, if_true, if_false, ne_eq, not_false_eq_true, ite_true, ite_false]
    rw [XB 397 (by omega) (by omega)]
    have := VV_tag (gv k k0 k1)
    exact ⟨this.1, this.2.1⟩) (eN e) 0 (by decide) n0 (big_d hN) (md_pi σ1 402 0) mf_rfl (by simp only [sF_pi, sF_pl, sF_ai, sF_al, sG_pi, sG_pl, sG_ai, sG_al, sI_pi, sI_pl, sI_al, sI_ai1, sI_ai2, sJ_pi, sJ_pl, sJ_ai, sJ_al1, sJ_al2, Nat.reduceEqDiff, if_true, if_false, ne_eq, not_false_eq_true, ite_true, ite_false]) (fun k k0 k1 => by exfalso; lia)
  rw [x1, bx_ok]
  have fx2 : m_fr vK σ1 τ := mf_tr (mf_pi mf_rfl rfl) x2
  have vq : ∀ k, k ≠ 400 → k ≠ 401 → k ≠ 402 → vK k = false := fun k h1 h2 h3 => by
    simp only [vK, List.contains_cons, List.contains_nil, Bool.or_eq_false_iff, beq_eq_false_iff_ne]
    exact ⟨h1, h2, h3, trivial⟩
  have fx : m_fr rsX σ τ := mf_tr X1 (mf_mono fx2 (fun k hk => by
    simp only [rsX, inR, List.contains_cons, List.contains_nil, Bool.or_eq_false_iff, beq_eq_false_iff_ne, Bool.and_eq_false_iff, decide_eq_false_iff_not] at hk
    exact vq k (by omega) (by omega) (by omega)))
  have up : ∀ k, k < 400 → ∀ x, sI τ k x = sI σ1 k x := fun k hk x => mf_I fx2 (vq k (by omega) (by omega) (by omega))
  have upF : ∀ k, k ≠ 400 → k ≠ 401 → k ≠ 402 → sF τ k = sF σ1 k := fun k h1 h2 h3 => mf_F fx2 (vq k h1 h2 h3)
  -- the reference lays back
  have Q4 : ∀ k, k ≠ 156 → k ≠ 160 → k ≠ 161 → k ≠ 162 → (k < 144 ∨ 153 < k) → ∀ x, sI μ1 k x = sI μ k x := fun k h1 h2 h3 h4 h5 x => Y4 k h5 h1 h2 h3 h4 x
  have kq : kpt μ1 b = kpt μ b ∧ kpv μ1 b = kpv μ b ∧ kff μ1 b = kff μ b := by
    refine ⟨?_, ?_, ?_⟩
    · funext i; simp only [kpt]; rw [Q4 173 (by omega) (by omega) (by omega) (by omega) (by omega), Q4 163 (by omega) (by omega) (by omega) (by omega) (by omega)]
    · funext i; simp only [kpv]; rw [YH, Q4 163 (by omega) (by omega) (by omega) (by omega) (by omega)]
    · funext k j; simp only [kff]; rw [Q4 176 (by omega) (by omega) (by omega) (by omega) (by omega), Q4 165 (by omega) (by omega) (by omega) (by omega) (by omega)]
  obtain ⟨υ1, y1, y2, y3, y4, y5⟩ := go250_lp (N := eN e) (T := T') (σ := μ1) (n := sI μ 164 b) (b := b) (p := p) bb.1 (by lia) (Q4 164 (by omega) (by omega) (by omega) (by omega) (by omega) b) sz.2.1 (by lia) (by lia) b0 b1 (fun q => by
    rw [Q4 163 (by omega) (by omega) (by omega) (by omega) (by omega)]
    have := e5 q
    exact ⟨this.1, this.2.1, Int32.le_trans this.2.2 l1.2⟩) (fun k k0 k1 => by
    rw [kq.1]
    exact FL_tag (by decide) (by decide) v5 (by lia) (by simp only; lia) k k0 (by simp only; rw [v6]; exact k1)) (eN e) 0 (by decide) sz.2.1 (big_d hN) μ1 mf_rfl (by rw [YB 143 (by omega) (by omega) (by omega), top]; lia) (fun k k0 k1 => by exfalso; lia) (fun k _ _ => ⟨rfl, rfl⟩)
  rw [y1]
  have cq : ∀ k, k ≠ 141 → k ≠ 142 → k ≠ 143 → cM k = false := fun k h1 h2 h3 => by
    simp only [cM, List.contains_cons, List.contains_nil, Bool.or_eq_false_iff, beq_eq_false_iff_ne]
    exact ⟨h1, h2, h3, trivial⟩
  have uI : ∀ k, 143 < k → ∀ x, sI υ1 k x = sI μ1 k x := fun k hk x => mf_I y2 (cq k (by omega) (by omega) (by omega))
  have uF : ∀ k, 143 < k → sF υ1 k = sF μ1 k := fun k hk => mf_F y2 (cq k (by omega) (by omega) (by omega))
  have kq2 : kff υ1 b = kff μ b := by
    rw [← kq.2.2]
    funext k j; simp only [kff]; rw [uI 176 (by omega), uI 165 (by omega)]
  have i165 : sI μ1 165 b = sI μ 165 b := Q4 165 (by omega) (by omega) (by omega) (by omega) (by omega) b
  obtain ⟨υ, z1, z2, z3, z4, z5, z6, z7⟩ := go310_lp (N := eN e) (T := T') (σ := υ1) (n := sI μ 166 b) (b := b) (p := p) (c1 := sF μ 154 + 1) (r := sI μ 165 b) b0 b1 (by rw [uI 166 (by omega)]; exact Q4 166 (by omega) (by omega) (by omega) (by omega) (by omega) b) v7 (by lia) (by lia) (by lia) (by lia) (by rw [uI 165 (by omega)]; exact i165) (fun q => ⟨(e6 q).1, (e6 q).2.1, Int32.le_trans (e6 q).2.2 l2.2⟩) (fun k k0 k1 => by
    rw [kq2]
    have := LK_k0 (FL_LK v5) k (by exact k0) (by exact k1)
    rcases this with q | q <;> rw [q] <;> decide) (by rw [uF 154 (by omega)]; exact Y9) (eN e) 0 (by decide) v7 (big_d hN) υ1 mf_rfl (by rw [uF 154 (by omega), Y9]; lia) (fun k k0 k1 => by exfalso; lia) (fun k j _ _ => rfl)
  rw [show sI μ 165 b + 10 * 0 = sI μ1 165 b by rw [i165]; lia] at z1
  rw [z1, uI 167 (by omega), uI 168 (by omega), uI 169 (by omega), Q4 167 (by omega) (by omega) (by omega) (by omega) (by omega), Q4 168 (by omega) (by omega) (by omega) (by omega) (by omega), Q4 169 (by omega) (by omega) (by omega) (by omega) (by omega)]
  have rq : ∀ k, (k < 144 ∨ 154 < k) → k ≠ 164 → k ≠ 166 → (roM k || [164, 166].contains k) = false := fun k h1 h2 h3 => by
    simp only [roM, inR, List.contains_cons, List.contains_nil, Bool.or_eq_false_iff, beq_eq_false_iff_ne, Bool.and_eq_false_iff, decide_eq_false_iff_not]
    exact ⟨by omega, h2, h3, trivial⟩
  have wI : ∀ k, (k < 144 ∨ 154 < k) → k ≠ 164 → k ≠ 166 → ∀ x, sI υ k x = sI υ1 k x := fun k h1 h2 h3 x => mf_I z2 (rq k h1 h2 h3)
  have wF' : ∀ k, (k < 144 ∨ 154 < k) → k ≠ 164 → k ≠ 166 → sF υ k = sF υ1 k := fun k h1 h2 h3 => mf_F z2 (rq k h1 h2 h3)
  have wJ : ∀ x, sJ υ 142 x = sJ υ1 142 x := fun x => mf_J z2 (rq 142 (by omega) (by omega) (by omega))
  have fm : m_fr rsM μ υ := mf_tr Y1 (mf_tr (mf_mono y2 (fun k hk => by
    simp only [rsM, inR, List.contains_cons, List.contains_nil, Bool.or_eq_false_iff, beq_eq_false_iff_ne, Bool.and_eq_false_iff, decide_eq_false_iff_not] at hk
    exact cq k (by omega) (by omega) (by omega))) (mf_mono z2 (fun k hk => by
    simp only [rsM, inR, List.contains_cons, List.contains_nil, Bool.or_eq_false_iff, beq_eq_false_iff_ne, Bool.and_eq_false_iff, decide_eq_false_iff_not] at hk
    exact rq k (by omega) (by omega) (by omega))))
  have pl141 : ∀ i, 0 ≤ i → i < p → sI υ 141 i = sI μ 141 i ∧ sJ υ 142 i = sJ μ 142 i := fun i i0 i1 => by
    have r1 := y5 i i0 i1
    rw [wI 141 (by omega) (by omega) (by omega), wJ, r1.1, r1.2, YH, Q4 141 (by omega) (by omega) (by omega) (by omega) (by omega)]
    exact ⟨rfl, rfl⟩
  have rw1 : ∀ k j, 0 ≤ k → k < sF μ 154 + 1 → j < 10 → mff υ k j = mff μ1 k j := fun k j k0 k1 hj => by
    rw [z7 k j k0 k1 hj]
    exact uI _ (by omega) _
  have m162 : sI υ 162 b = sF μ 154 + 1 := by rw [wI 162 (by omega) (by omega) (by omega), uI 162 (by omega)]; exact Y7
  have m161 : sI υ 161 b = p := by rw [wI 161 (by omega) (by omega) (by omega), uI 161 (by omega), Y6]; exact top
  have ME' : ME (eS e) (eK e) (eQ e) w xf a b ((c, d) :: rest) τ υ := by
    refine ME_res H.1 H.2.2 hC z hp ho fx fm v7 calls.2 (by rw [wI 159 (by omega) (by omega) (by omega), uI 159 (by omega), Q4 159 (by omega) (by omega) (by omega) (by omega) (by omega)]; exact v4) (fun x x0 => by rw [up 323 (by omega)]; exact X2 x x0) (fun x x0 => ?_) (fun k k0 k1 x x0 xa => by rw [up k (by omega)]; exact X3 k k0 k1 x x0 xa) (by rw [up 327 (by omega)]; exact X4) (kd := kd) (by rw [up 328 (by omega), X5]; exact hwr) (by rw [up 329 (by omega)]; exact X6) (by rw [up 330 (by omega)]; exact X7) (by rw [up 331 (by omega)]; exact X8) (by rw [upF 339 (by omega) (by omega) (by omega)]; exact X9) (by rw [upF 358 (by omega) (by omega) (by omega)]; exact XA) z5 (by rw [wF' 155 (by omega) (by omega) (by omega), uF 155 (by omega)]; exact YA) (fun x x0 => by rw [wI 156 (by omega) (by omega) (by omega), uI 156 (by omega)]; exact Y2 x x0) (fun k hk x x0 xb => ?_) (by rw [wI 160 (by omega) (by omega) (by omega), uI 160 (by omega)]; exact Y5) m161 m162 (by rw [z3 b b0, if_pos rfl]) (by rw [z4 b b0, if_pos rfl]) (by rw [wF' 172 (by omega) (by omega) (by omega), uF 172 (by omega)]; exact Y8) (fun k j k0 k1 hj => by rw [rw1 k j k0 (by lia) hj]; exact YC k j k0 k1 hj) (by rw [rw1 _ _ c0 (by lia) (by omega)]; exact YD) (by rw [rw1 _ _ c0 (by lia) (by omega)]; exact YE) (by rw [rw1 _ _ c0 (by lia) (by omega)]; exact YF) (by rw [rw1 _ _ c0 (by lia) (by omega)]; exact YG) pl141
    · rw [up 324 (by omega), XB 324 (by omega) (by omega)]
      by_cases q : x = a
      · rw [if_pos q, q]; exact v3
      · rw [if_neg q]
    · by_cases q : k = 164
      · subst q; rw [z3 x x0, if_neg xb, uI 164 (by omega)]; exact Y3 164 hk x x0 xb
      · by_cases q2 : k = 166
        · subst q2; rw [z4 x x0, if_neg xb, uI 166 (by omega)]; exact Y3 166 hk x x0 xb
        · rw [wI k (by omega) q q2, uI k (by omega)]; exact Y3 k hk x x0 xb
  have SV' : SV e w τ υ := SV_rs H.2.1 fx fm (by rw [upF 406 (by omega) (by omega) (by omega), XD 406 (by omega) (by omega)]; exact f406)
  have x332 : ∀ k, k = 332 ∨ k = 333 ∨ k = 334 → sI τ k a = sI σ k a := fun k hk => by rw [up k (by omega), XB k (by omega) (by omega)]
  have FL1 : FL (eS e) w τ (kff μ b) (kpt μ b) (kpv μ b) 4 0 0 (xf a) (sI μ 166 b) (sI σ 332 a, sI σ 333 a, sI σ 334 a, sI μ 167 b, sI μ 168 b, sI μ 169 b) := FL_cg v5 ⟨by decide, by lia, by decide, by decide⟩ wle_rfl (fun g _ => xcs_rs fx) (cds_fr fx (rsX_f (by omega)) (rsX_f (by omega)) (rsX_f (by omega))) (fun _ _ _ _ _ => rfl) (fun _ _ _ => ⟨rfl, rfl⟩)
  have FL2 := FL_sh (ff' := mff υ) (pt' := sI υ 141) (pv' := sJ υ 142) (k0' := sF μ 154 + 1) (B0' := p) ⟨by decide, by decide⟩ ⟨bb.1, by lia⟩ ⟨by decide, by decide⟩ ⟨by lia, by lia⟩ FL1 (by lia) (fun k k0 k1 => by
    obtain ⟨r1, r3, r5⟩ := z6 k k0 k1
    rw [kq2] at r1 r3 r5
    rw [show k - 0 + (sF μ 154 + 1) = sF μ 154 + 1 + k by lia]
    exact ⟨r1, by rw [r3]; lia, by rw [r5]; lia⟩) (fun i i0 i1 => by
    have i1' : i < sI μ 164 b := by rw [← v6]; exact i1
    have r1 := y4 i i0 i1'
    rw [kq.1, kq.2.1] at r1
    rw [show i - 0 + p = p + i by lia, wI 141 (by omega) (by omega) (by omega), wJ]
    exact r1) (by simp only; lia)
  have CL' : CL e w xf a b ((c, d) :: rest) (sI σ 332 a, sI σ 333 a, sI σ 334 a, sI μ 167 b + p, sI μ 168 b, sI μ 169 b) τ υ := by
    refine ⟨ME', SV', ?_⟩
    have e4 : btO b = 4 := by rw [btO_d, if_neg (by lia)]
    rw [m162, m161, e4, z5]
    simp only at FL2
    rw [show sI μ 166 b - 0 + (sF μ 154 + 1) = sF μ 154 + 1 + sI μ 166 b by lia, show sI μ 167 b - 0 + p = sI μ 167 b + p by lia] at FL2
    exact FL2
  have GV' : GV w τ υ n := by
    refine ⟨x3, ?_, n0, by lia, fun k k0 k1 => ?_⟩
    · rw [wF' 190 (by omega) (by omega) (by omega), uF 190 (by omega), YB 190 (by omega) (by omega) (by omega)]; exact g190
    · have r1 := x4 k k0 k1
      simp only [sF_pi, sF_pl, sF_ai, sF_al, sG_pi, sG_pl, sG_ai, sG_al, sI_pi, sI_pl, sI_al, sI_ai1, sI_ai2, sJ_pi, sJ_pl, sJ_ai, sJ_al1, sJ_al2, Nat.reduceEqDiff, if_true, if_false, ne_eq, not_false_eq_true, ite_true, ite_false] at r1
      have j189 : sJ υ 189 k = sJ υ1 189 k := mf_J z2 (rq 189 (by omega) (by omega) (by omega))
      have j189' : sJ υ1 189 k = sJ μ1 189 k := mf_J y2 (cq 189 (by omega) (by omega) (by omega))
      rw [r1.1, r1.2, XB 397 (by omega) (by omega), XC, wI 188 (by omega) (by omega) (by omega), uI 188 (by omega), Q4 188 (by omega) (by omega) (by omega) (by omega) (by omega), j189, j189', YH]
      exact gv k k0 k1
  have fin := give_G2 E GF CL' GV' n1 (by rw [mf_F fx (rsX_f (by omega))]; exact hF)
  rw [show sI (md_pi σ1 402 0) 332 a = sI σ 332 a by simp only [sF_pi, sF_pl, sF_ai, sF_al, sG_pi, sG_pl, sG_ai, sG_al, sI_pi, sI_pl, sI_al, sI_ai1, sI_ai2, sJ_pi, sJ_pl, sJ_ai, sJ_al1, sJ_al2, Nat.reduceEqDiff, if_true, if_false, ne_eq, not_false_eq_true, ite_true, ite_false]; rw [XB 332 (by omega) (by omega)], show sI (md_pi σ1 402 0) 333 a = sI σ 333 a by simp only [sF_pi, sF_pl, sF_ai, sF_al, sG_pi, sG_pl, sG_ai, sG_al, sI_pi, sI_pl, sI_al, sI_ai1, sI_ai2, sJ_pi, sJ_pl, sJ_ai, sJ_al1, sJ_al2, Nat.reduceEqDiff, if_true, if_false, ne_eq, not_false_eq_true, ite_true, ite_false]; rw [XB 333 (by omega) (by omega)], show sI (md_pi σ1 402 0) 334 a = sI σ 334 a by simp only [sF_pi, sF_pl, sF_ai, sF_al, sG_pi, sG_pl, sG_ai, sG_al, sI_pi, sI_pl, sI_al, sI_ai1, sI_ai2, sJ_pi, sJ_pl, sJ_ai, sJ_al1, sJ_al2, Nat.reduceEqDiff, if_true, if_false, ne_eq, not_false_eq_true, ite_true, ite_false]; rw [XB 334 (by omega) (by omega)]]
  exact fin
