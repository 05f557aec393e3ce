/-! LAYER 2: step rules: what was captured -/
theorem cap_S {e : EV} {w : WD} {xf : Int32 → List Int32} {c d : Int32} {rest : PL2} {f : Int32} {fl : List Int32} {ρ : List Int32} {m : Int32} {g p q F n : Int32} {σ μ : mS} (S : ST e w xf c d rest f fl ρ m g p q F n σ μ) {k : Int32} (k0 : 0 ≤ k) (hk : ∀ b' m', eK e g b' m' → k < m') : ∃ a b, (a, b) ∈ wB w ∧ (∀ N, xx6_captured N σ k = some (a, σ)) ∧ (0 ≤ sI μ 145 (n - 1) ∧ sI μ 145 (n - 1) < 4100) ∧ (0 ≤ sI μ 46 (sI μ 145 (n - 1)) + k ∧ sI μ 46 (sI μ 145 (n - 1)) + k < 12000) ∧ sI μ 50 (sI μ 46 (sI μ 145 (n - 1)) + k) = b := by
  obtain ⟨⟨⟨H, T⟩, a1, a2, a3, a4, a5⟩, s1, s2⟩ := S
  obtain ⟨H1, V, hf, hk0, hB, FCx, FLx⟩ := H
  obtain ⟨c1, c2, c3, c4, c5, c6, _⟩ := FCx
  rw [a5] at c4
  have R := H1.1.1
  obtain ⟨W, SS, _, ⟨⟨fx, F1⟩, F2, F3, F4⟩, _⟩ := R
  have ma : sI σ 343 f ∈ (wF w).map Prod.fst := List.mem_map.mpr ⟨_, c4, rfl⟩
  have mb : mff μ (n - 1) 1 ∈ (wF w).map Prod.snd := List.mem_map.mpr ⟨_, c4, rfl⟩
  have ra := F1.1.2.2.2.2.1 _ (List.mem_append_left _ ma)
  have rb := F2.1.2.2.2.2.2.1 _ mb
  have la := lay_le F1.2 (by decide)
  have lx := la.2.2 _ ma
  obtain ⟨g1, g2, g3, g4, g5⟩ := F4 _ _ c4
  have kk : k < sI σ 224 (sI σ 343 f) := by
    rcases g4 with ⟨_, _, K⟩ | ⟨_, c', d', hcd, h222, _⟩
    · rw [← c5, a1] at K
      exact hk _ _ K
    · obtain ⟨fcs, _, _, r, _⟩ := H1.2.2.2.2.1.2.2.1
      have rc := r c' (List.mem_append_right _ (List.mem_map.mpr ⟨_, hcd, rfl⟩))
      have c60 := c6.1
      rw [c5, h222] at c60
      exfalso; clear c6; lia
  have n0 := lx.2.2.2
  have M1 : sF μ 52 ≤ 12000 := F2.2.2.2
  have n1 := fj_5 lx.1 n0 lx.2.1 lx.2.2.1 la.2.1
  have x1 := fj_1 lx.1 k0 kk lx.2.2.1 la.2.1 lx.2.1
  have x2 := fj_1 g2.1 k0 kk g3 M1 (fi_2 g2.1 n0 g2.2 n1)
  refine ⟨_, _, g5 k k0 kk, fun N => ?_, ⟨Int32.le_trans (by decide) rb.1, by have := rb.2; show mff μ (n - 1) 1 < 4100; lia⟩, ⟨x2.1, Int32.lt_of_lt_of_le x2.2 M1⟩, rfl⟩
  have e411 : σ.1 411 = f := s2
  have e343 : σ.2.2.1 343 f.toNatClampNeg = sI σ 343 f := rfl
  rw [xx6_captured, e411, gd_in (by decide) c1.1 c1.2, e343, gd_in (by decide) ra.1 ra.2, show σ.2.2.1 223 (sI σ 343 f).toNatClampNeg = sI σ 223 (sI σ 343 f) from rfl, gd_in (by decide) x1.1 (Int32.lt_of_lt_of_le x1.2 la.2.1)]
  rfl
/-- GET_CAPTURED -/
theorem r_getc {e : EV} {w : WD} {xf : Int32 → List Int32} {c d : Int32} {rest : PL2} {f : Int32} {fl : List Int32} {ρ : List Int32} {g p q F n : Int32} {σ μ : mS} (Z : ZRok e) {M rk : Nat} (G : GK e M F n rk) (A : PT e w xf c d rest f fl ρ (-1) g p q F n σ μ) (z : eZ e rk g p q ρ (-1)) (ho : opx e p 9) (ha : acm e q 9) {k : Int32} (k0 : 0 ≤ k) (hk : ∀ b' m', eK e g b' m' → k < m') (hr : nx e (p + 2) = k) (hv : sI (eμ e) 71 q = k) (ok : okr ρ (nx e (p + 1)) 1 (sI (eσ e) 261 g)) (L : lo e rk g (p + 3) (q + 1) (ρ ++ [nx e (p + 1)]) (-1)) : Good e (M + 3000) σ μ := by
  have hx := PT_x A ho (fun s => rfl)
  have S := PT_s A 3
  have o := ops_1 ho.1.1 ho.1.2
  have k01 := (PT_N A).2.1
  have hm := act_f A ha
  rw [af_9, hv] at hm
  have h256 := fun i => xP_256 S.1 i
  obtain ⟨k1, xa, xl⟩ := rare_k (N := eN e) (k := 9) ho.1.1 ho.1.2 h256
  rw [sf_9, rare_s, k1, rf_9, xa, xl, gd_tt, gd_in (by decide) o.2.1.1 o.2.1.2, h256, hr] at hx
  clear k1
  generalize xP σ f p 3 = τ at hx S h256
  generalize actP μ (n - 1) q = τm at hm S
  have zk' := zk_of Z z
  obtain ⟨a, b, hab, x1, x2, x3, x4⟩ := cap_S S k0 hk
  obtain ⟨a01, b01, bv⟩ := box_V S.1.1.1.1.1.1 hab
  obtain ⟨p1, p2, p3⟩ := push_1 (N := eN e) (N' := eN e) S zk' ok bv
  refine Good_2 A (hx.trans ?_) (hm.trans ?_) (GK_lo G p3.1 L)
  · rw [x1, bd_so, rare_bd, xx6_unbox, gd_in (by decide) a01.1 a01.2, gd_in (by decide) a01.1 a01.2, bd_bd]
    have p1' : xx6_set (eN e) τ (nx e (p + 1)) (τ.2.2.1 233 a.toNatClampNeg) (τ.2.2.2 234 a.toNatClampNeg) = some (xS τ (sI τ 347 f + nx e (p + 1)) (sI τ 233 a) (sJ τ 234 a)) := p1
    rw [p1', bd_so, bd_so]
  · have e1 : τm.2.2.1 145 (n - 1).toNatClampNeg = sI τm 145 (n - 1) := rfl
    have e2 : τm.2.2.1 46 (sI τm 145 (n - 1)).toNatClampNeg = sI τm 46 (sI τm 145 (n - 1)) := rfl
    have e3 : τm.2.2.1 50 (sI τm 46 (sI τm 145 (n - 1)) + k).toNatClampNeg = b := x4
    rw [gd_in (by decide) k01.1 k01.2, e1, gd_in (by decide) x2.1 x2.2, e2, gd_in (by decide) x3.1 x3.2, e3, lt, gd_in (by decide) b01.1 b01.2, gd_in (by decide) b01.1 b01.2, act_b]
    exact p2
/-- SET_CAPTURED -/
theorem r_setc {e : EV} {w : WD} {xf : Int32 → List Int32} {c d : Int32} {rest : PL2} {f : Int32} {fl : List Int32} {ρ0 : List Int32} {x : Int32} {g p q F n : Int32} {σ μ : mS} (Z : ZRok e) {M rk : Nat} (G : GK e M F n rk) (A : PT e w xf c d rest f fl (ρ0 ++ [x]) (-1) g p q F n σ μ) (z : eZ e rk g p q (ρ0 ++ [x]) (-1)) (ho : opx e p 10) (ha : acm e q 10) {k : Int32} (k0 : 0 ≤ k) (hk : ∀ b' m', eK e g b' m' → k < m') (hr : nx e (p + 1) = k) (hr2 : nx e (p + 2) = x) (x0 : 0 ≤ x) (hv : sI (eμ e) 71 q = k) (L : lo e rk g (p + 3) (q + 1) ρ0 (-1)) : Good e (M + 3000) σ μ := by
  have hx := PT_x A ho (fun s => rfl)
  have S := PT_s A 3
  have o := ops_1 ho.1.1 ho.1.2
  have k01 := (PT_N A).2.1
  have hm := act_f A ha
  rw [af_10, hv] at hm
  have h256 := fun i => xP_256 S.1 i
  obtain ⟨k1, xa, xl⟩ := rare_k (N := eN e) (k := 10) ho.1.1 ho.1.2 h256
  rw [sf_10, rare_s, k1, rf_10, xa, xl, hr] at hx
  clear k1
  generalize xP σ f p 3 = τ at hx S h256
  generalize actP μ (n - 1) q = τm at hm S
  have zk' := zk_of Z z
  obtain ⟨v, t2, t3, S2⟩ := top_S S zk' x0
  have xR' := zk_reg zk' mem_l x0
  have t8 := VV_t8 v
  obtain ⟨a, b, hab, x1, x2, x3, x4⟩ := cap_S S k0 hk
  obtain ⟨a01, b01, S3⟩ := inBox_S S2 hab v
  have hk1 := inB_S (N := eN e) S x0 xR' a01.1 a01.2 t8.1.1 t8.1.2
  have hk' := inB_m (N := eN e) (μ := md_pi τm 143 (sF τm 143 - 1)) (b := b) t2.1 t2.2 b01.1 b01.2 t8.2.1 t8.2.2
  refine Good_2 A (hx.trans ?_) (hm.trans ?_) (GK_lo G S3.1 L)
  · rw [x1, bd_so, gd_tt, gd_in (by decide) o.2.1.1 o.2.1.2, h256, hr2, hk1, bd_so]; rfl
  · have e1 : (md_pi τm 143 (τm.1 143 - 1)).2.2.1 145 (n - 1).toNatClampNeg = sI τm 145 (n - 1) := rfl
    have e2 : (md_pi τm 143 (τm.1 143 - 1)).2.2.1 46 (sI τm 145 (n - 1)).toNatClampNeg = sI τm 46 (sI τm 145 (n - 1)) := rfl
    have e3 : (md_pi τm 143 (τm.1 143 - 1)).2.2.1 50 (sI τm 46 (sI τm 145 (n - 1)) + k).toNatClampNeg = b := x4
    rw [lt, gd_in (by decide) k01.1 k01.2, e1, gd_in (by decide) x2.1 x2.2, e2, gd_in (by decide) x3.1 x3.2, e3, act_b]
    exact hk'
/-- MOVE_CAPTURED -/
theorem r_movc {e : EV} {w : WD} {xf : Int32 → List Int32} {c d : Int32} {rest : PL2} {f : Int32} {fl : List Int32} {ρ : List Int32} {g p q F n : Int32} {σ μ : mS} (Z : ZRok e) {M rk : Nat} (G : GK e M F n rk) (A : PT e w xf c d rest f fl ρ (-1) g p q F n σ μ) (z : eZ e rk g p q ρ (-1)) (ho : opx e p 10) (ha : acm e q 11) {k x : Int32} (k0 : 0 ≤ k) (hk : ∀ b' m', eK e g b' m' → k < m') (hr : nx e (p + 1) = k) (hr2 : nx e (p + 2) = x) (x0 : 0 ≤ x) {i : Nat} (hi : i < ρ.length) (hxi : ρ.getD i 0 = x) (hv : sI (eμ e) 71 q = k) (hw : sI (eμ e) 73 q = Int32.ofNat i) (L : lo e rk g (p + 3) (q + 1) (ρ.set i (-1)) (-1)) : Good e (M + 3000) σ μ := by
  have hx := PT_x A ho (fun s => rfl)
  have S := PT_s A 3
  have o := ops_1 ho.1.1 ho.1.2
  have k01 := (PT_N A).2.1
  have e3 : mff (actP μ (n - 1) q) (n - 1) 3 = mff μ (n - 1) 3 := mf_I actP_fr rfl
  have hm := act_f A ha
  have iq := (act_k A ha).1
  have k73 := (aP_70 S.1 q).2
  rw [hw] at k73
  rw [af_11, hv, ← e3, iq, k73] at hm
  have h256 := fun i => xP_256 S.1 i
  obtain ⟨k1, xa, xl⟩ := rare_k (N := eN e) (k := 10) ho.1.1 ho.1.2 h256
  rw [sf_10, rare_s, k1, rf_10, xa, xl, hr] at hx
  clear k1 e3
  generalize xP σ f p 3 = τ at hx S h256
  generalize actP μ (n - 1) q = τm at hm S k73
  have zk0 := zk_of Z z
  obtain ⟨h1, h2, h3, h4, h5⟩ := PT_at S.1 zk0.1
  have bi := (h5 i (by omega) 0 (by omega)).1
  have rvi := h1 i hi
  rw [hxi] at rvi
  have v := RV_V rvi x0
  have xR' := zk_reg zk0 (by have := i_rho hi; rw [hxi] at this; exact this) x0
  have t8 := VV_t8 v
  obtain ⟨a, b, hab, x1, x2, x3, x4⟩ := cap_S S k0 hk
  obtain ⟨a01, b01, S3⟩ := inBox_S S hab v
  have hk1 := inB_S (N := eN e) S x0 xR' a01.1 a01.2 t8.1.1 t8.1.2
  have hk' := inB_m (N := eN e) (μ := τm) (b := b) bi.1 bi.2 b01.1 b01.2 t8.2.1 t8.2.2
  have e3' : ∀ t v', mff (bW τm 53 54 b t v') (n - 1) 3 = mff τm (n - 1) 3 := fun _ _ => rfl
  obtain ⟨g1, g2⟩ := gone_m1 (N := eN e) (j := i) S3.1 zk0.1 hi
  rw [e3'] at g1 g2
  refine Good_2 A (hx.trans ?_) (hm.trans ?_) (GK_lo G g2 L)
  · rw [x1, bd_so, gd_tt, gd_in (by decide) o.2.1.1 o.2.1.2, h256, hr2, hk1, bd_so]; rfl
  · have e1 : τm.2.2.1 145 (n - 1).toNatClampNeg = sI τm 145 (n - 1) := rfl
    have e2 : τm.2.2.1 46 (sI τm 145 (n - 1)).toNatClampNeg = sI τm 46 (sI τm 145 (n - 1)) := rfl
    have e3 : τm.2.2.1 50 (sI τm 46 (sI τm 145 (n - 1)) + k).toNatClampNeg = b := x4
    have k73' : ∀ t v', (bW τm 53 54 b t v').2.2.1 73 q.toNatClampNeg = Int32.ofNat i := fun _ _ => k73
    rw [gd_in (by decide) k01.1 k01.2, e1, gd_in (by decide) x2.1 x2.2, e2, gd_in (by decide) x3.1 x3.2, gd_tt, e3, hk', bd_so, gd_tt, k73', g1]
    rfl
