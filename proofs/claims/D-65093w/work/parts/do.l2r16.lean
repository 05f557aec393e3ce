/-! LAYER 2: step rules: PUT of several; NIL for what is gone -/
theorem zk_gone {e : EV} {w : WD} {xf : Int32 → List Int32} {c d : Int32} {rest : PL2} {f : Int32} {fl : List Int32} {ρ : List Int32} {m : Int32} {g p q F n : Int32} {σ μ : mS} (S : ST e w xf c d rest f fl ρ m g p q F n σ μ) {ρ' : List Int32} (z : zk e g ρ') {k : Nat} : zk e g (ρ'.set k (-1)) := ⟨by rw [List.length_set]; exact z.1, fun y hy => by
  rcases List.mem_or_eq_of_mem_set hy with h | h
  · exact z.2 y h
  · rw [h]
    have := MR0_f S.1.1.1
    rw [PT_R S.1] at this
    exact Int32.lt_of_lt_of_le (by decide) (Int32.le_of_lt this.2.1.1)⟩
theorem nil1_x {e : EV} {p r : Int32} {τ υ : mS} (hp : 0 ≤ p ∧ p < 339900) (h256 : ∀ i : Int32, τ.2.2.1 256 i.toNatClampNeg = nx e i) (h1 : nx e (p + 1) = r) (h2 : nx e (p + 2) = 1) (s1 : xx6_set (eN e) τ r 0 0 = some υ) (hυ : sI υ 256 (p + 2) = 1) {j : Nat} : xx6_step_b242 (eN e) (j + 2) p 0 τ = some (.ok υ) := by
  have o := ops_1 hp.1 hp.2
  have hυ' : υ.2.2.1 256 (p + 2).toNatClampNeg = 1 := hυ
  rw [xx6_step_b242, gd_in (by decide) o.2.1.1 o.2.1.2, h256, h2, if_neg (by decide), gd_in (by decide) o.1.1 o.1.2, h256, h1, show r + 0 = r from by lia, s1, bd_so, lt, show (0 : Int32) + 1 = 1 from by decide]
  rw [xx6_step_b242, gd_in (by decide) o.2.1.1 o.2.1.2, hυ', if_pos (by decide)]
  rfl
/-- NIL for a value whose place is gone -/
theorem r_nilg {e : EV} {w : WD} {xf : Int32 → List Int32} {c d : Int32} {rest : PL2} {f : Int32} {fl : List Int32} {ρ : List Int32} {g p q F n : Int32} {σ μ : mS} (Z : ZRok e) (BN : 1000000 ≤ eN e) {M rk : Nat} (G : GK e M F n rk) (A : PT e w xf c d rest f fl ρ (-1) g p q F n σ μ) (z : eZ e rk g p q ρ (-1)) (ho : opx e p 1) (h2 : nx e (p + 2) = 1) {k : Nat} (hk : k < ρ.length) (hg : ρ.getD k 0 = -1) (ok : okr ρ (nx e (p + 1)) 1 (sI (eσ e) 261 g)) (L : lo e rk g (p + 3) q (ρ.set k (-10000 - nx e (p + 1))) (-1)) : Good e (M + 3000) σ μ := by
  have hx := PT_x A ho (fun s => rfl)
  have S := (PT_sx A 3).1
  have h256 := fun i => xP_256 S.1 i
  rw [sf_1] at hx
  generalize xP σ f p 3 = τ at hx S h256
  obtain ⟨s1, S2, zk2, s4⟩ := gone_S (N := eN e) S (zk_of Z z) hk ok.1 hg ok
  obtain ⟨N, hN⟩ : ∃ i, eN e = i + 2 := ⟨eN e - 2, by omega⟩
  have q1 := nil1_x (j := N) ho.1 h256 rfl h2 s1 ((mf_I xS_f rfl).trans ((h256 (p + 2)).trans h2))
  refine Good_x A (hx.trans ?_) (GK_lo G S2.1 L)
  rw [← q1]
  exact congrArg (fun t => xx6_step_b242 (eN e) t p 0 τ) hN
theorem m3_set {ρ : List Int32} {i k : Nat} {a b c a' b' c' : Int32} (h1 : i + 1 ≠ k) (h2 : i ≠ k) : ((((((ρ.set i a).set (i + 1) b).set k c).set i a').set (i + 1) b').set k c') = ((ρ.set i a').set (i + 1) b').set k c' := by
  apply List.ext_getElem?
  intro j
  simp only [List.getElem?_set, List.length_set]
  by_cases e1 : i = j <;> by_cases e2 : i + 1 = j <;> by_cases e3 : k = j <;> simp_all
/-- PUT of several: what is used goes -/
theorem r_put2 {e : EV} {w : WD} {xf : Int32 → List Int32} {c d : Int32} {rest : PL2} {f : Int32} {fl : List Int32} {ρ : List Int32} {g p q F n : Int32} {σ μ : mS} {M rk : Nat} {x y v live : Int32} (C : CXT e M F n rk) (hk : rk ≤ 2000000) (A : PT e w xf c d rest f fl ρ (-1) g p q F n σ μ) (z : eZ e rk g p q ρ (-1)) (ho : opx e p 14) (ha : acm e q 17) (ln : lin e p q) (h1 : nx e (p + 1) = x) (h2 : nx e (p + 2) = y) (h3 : nx e (p + 3) = v) (h4 : nx e (p + 4) = live) (l0 : live < 0) (x0 : 0 ≤ x) (y0 : 0 ≤ y) (v0 : 0 ≤ v) {i k : Nat} (hi : i + 1 < ρ.length) (hk' : k < ρ.length) (k1 : i ≠ k) (k2 : i + 1 ≠ k) (hxi : ρ.getD i 0 = x) (hyi : ρ.getD (i + 1) 0 = y) (hvk : ρ.getD k 0 = v) (hv : sI (eμ e) 71 q = Int32.ofNat i) (hw : sI (eμ e) 73 q = Int32.ofNat k) (ok1 : okr (((ρ.set i (-1)).set (i + 1) (-1)).set k (-1)) x 1 (sI (eσ e) 261 g)) (ok2 : okr (((ρ.set i (-10000 - x)).set (i + 1) (-1)).set k (-1)) y 1 (sI (eσ e) 261 g)) (ok3 : okr (((ρ.set i (-10000 - x)).set (i + 1) (-10000 - y)).set k (-1)) v 1 (sI (eσ e) 261 g)) (V : lvS e g (((ρ.set i (-10000 - x)).set (i + 1) (-10000 - y)).set k (-10000 - v)) (live ^^^ -1)) (L : lo e rk g (p + 5) (q + 1) (((ρ.set i (-10000 - x)).set (i + 1) (-10000 - y)).set k (-10000 - v)) (-1)) : Good e (M + 3000) σ μ := by
  obtain ⟨E, hM, Z, _, _, G, _, _⟩ := id C
  have hx := PT_x A ho (fun s => rfl)
  have S := PT_s A 5
  have LL := PT_LE (k := 0) A ho ln 5
  have o := ops_1 ho.1.1 ho.1.2
  have e3 : mff (actP μ (n - 1) q) (n - 1) 3 = mff μ (n - 1) 3 := mf_I actP_fr rfl
  have hm := act_f A ha
  have iq := (act_k A ha).1
  have k73 := (aP_70 S.1 q).2
  rw [hw] at k73
  rw [af_17, hv, ← e3, iq, gd_tt, k73, act_b] at hm
  have h256 := fun i => xP_256 S.1 i
  rw [sf_14, gd_in (by decide) o.1.1 o.1.2, gd_in (by decide) o.2.1.1 o.2.1.2, gd_in (by decide) o.2.2.1.1 o.2.2.1.2, gd_in (by decide) o.2.2.2.1 o.2.2.2.2, rare_s, h256, h256, h256, h256, h1, h2, h3, h4] at hx
  clear e3
  generalize xP σ f p 5 = τ at hx S h256 LL
  generalize actP μ (n - 1) q = τm at hm S LL k73
  have zk0 := zk_of Z z
  obtain ⟨g1, g2, g3, g4, g5⟩ := PT_at S.1 zk0.1
  have bi := (g5 i (by omega) 0 (by omega)).1
  have bj := (g5 (i + 1) (by omega) 0 (by omega)).1
  have bk := (g5 k (by omega) 0 (by omega)).1
  have rx := g1 i (by omega)
  have ry := g1 (i + 1) hi
  have rv := g1 k hk'
  rw [hxi] at rx
  rw [hyi] at ry
  rw [hvk] at rv
  have vx := RV_V rx x0
  have vy := RV_V ry y0
  have vv := RV_V rv v0
  have xR := zk_reg zk0 (by have := i_rho (ρ := ρ) (j := i) (by omega); rw [hxi] at this; exact this) x0
  have yR := zk_reg zk0 (by have := i_rho hi; rw [hyi] at this; exact this) y0
  have vR := zk_reg zk0 (by have := i_rho hk'; rw [hvk] at this; exact this) v0
  have eij : mff τm (n - 1) 3 + Int32.ofNat i + 1 = mff τm (n - 1) 3 + Int32.ofNat (i + 1) := b_p1
  -- the places go
  obtain ⟨q1, A1⟩ := gone_m1 (N := eN e) (j := i) S.1 zk0.1 (by omega)
  have f1 : ∀ a : Int32, mff (md_ai τm 141 a.toNatClampNeg 0) (n - 1) 3 = mff τm (n - 1) 3 := fun _ => rfl
  obtain ⟨q2, A2⟩ := gone_m1 (N := eN e) (j := i + 1) A1 (by rw [List.length_set]; exact zk0.1) (by rw [List.length_set]; exact hi)
  rw [f1] at q2 A2
  have f2 : ∀ a b : Int32, mff (md_ai (md_ai τm 141 a.toNatClampNeg 0) 141 b.toNatClampNeg 0) (n - 1) 3 = mff τm (n - 1) 3 := fun _ _ => rfl
  obtain ⟨q3, A3⟩ := gone_m1 (N := eN e) (j := k) A2 (by rw [List.length_set, List.length_set]; exact zk0.1) (by rw [List.length_set, List.length_set]; exact hk')
  rw [f2] at q3 A3
  have S1 : ST e w xf c d rest f fl (((ρ.set i (-1)).set (i + 1) (-1)).set k (-1)) (-1) g (p + 5) (q + 1) F n τ _ := ⟨A3, S.2⟩
  have zk1 : zk e g (((ρ.set i (-1)).set (i + 1) (-1)).set k (-1)) := zk_gone S (zk_gone S (zk_gone S zk0))
  obtain ⟨s1, S2, zk2, w1⟩ := gone_S (N := eN e) S1 zk1 (j := i) (by simp; omega) x0 (by rw [set_at (by simp; omega), if_neg k1, set_at (by simp; omega), if_neg (by omega), set_at (by omega), if_pos rfl]) ok1
  have c1 : (((ρ.set i (-1)).set (i + 1) (-1)).set k (-1)).set i (-10000 - x) = ((ρ.set i (-10000 - x)).set (i + 1) (-1)).set k (-1) := by
    rw [List.set_comm _ _ (by omega : k ≠ i), List.set_comm _ _ (by omega : i + 1 ≠ i), List.set_set]
  rw [c1] at S2 zk2
  obtain ⟨s2, S3, zk3, w2⟩ := gone_S (N := eN e) S2 zk2 (j := i + 1) (by simp; omega) y0 (by rw [set_at (by simp; omega), if_neg k2, set_at (by simp; omega), if_pos rfl]) ok2
  have c2 : (((ρ.set i (-10000 - x)).set (i + 1) (-1)).set k (-1)).set (i + 1) (-10000 - y) = ((ρ.set i (-10000 - x)).set (i + 1) (-10000 - y)).set k (-1) := by
    rw [List.set_comm _ _ (by omega : k ≠ i + 1), List.set_set]
  rw [c2] at S3 zk3
  obtain ⟨s3, S4, zk4, w3⟩ := gone_S (N := eN e) S3 zk3 (j := k) (by simp; omega) v0 (by rw [set_at (by simp; omega), if_pos rfl]) ok3
  rw [List.set_set] at S4 zk4
  rw [xx6_put, (rd_r S x0 xR).1, bd_so, (rd_r S x0 xR).2, bd_so, (rd_r S y0 yR).1, bd_so, (rd_r S y0 yR).2, bd_so, (rd_r S v0 vR).1, bd_so, (rd_r S v0 vR).2, bd_so, if_neg (xrr_1 l0), s1, bd_so, s2, bd_so, s3, bd_so, xx6_put_b68, if_neg (xrr_1 l0), xx6_put_b95, bx_me (fun z => rfl), xx6_putIn] at hx
  have m1 : ∀ a : Int32, τm.2.2.1 141 a.toNatClampNeg = sI τm 141 a := fun _ => rfl
  rw [mm_movePut, gd_in (by decide) bi.1 bi.2, lt, eij, gd_in (by decide) bj.1 bj.2, lt, gd_in (by decide) bk.1 bk.2, lt, q1, bd_so, q2, bd_so, q3, bd_so, gd_in (by decide) bi.1 bi.2, gd_in (by decide) bj.1 bj.2, gd_in (by decide) bk.1 bk.2, bd_me (fun z => rfl), mm_store_2, m1, m1, m1] at hm
  have N := (PT_N S.1).2.2.1
  have tp := tp_1 (n := ρ.length) zk0.1 N.1 N.2
  have B2 : mff τm (n - 1) 3 + Int32.ofNat ρ.length ≤ 480000 := by
    have h0 := oN_bd (n := ρ.length) zk0.1
    have n1 := N.1
    have n2 := N.2
    clear hx hm h256 LL vx vy vv g1 g5 rx ry rv w1 w2 w3
    lia
  rcases store_2 (μ := μ) C zk4 vy vv (lo_S hk L) (LV_S S4 V) tp.1 B2 (eN e) 0 (by decide) (by decide) (N_100 C.1.1) _ _ _ _ _ vx S4 g2 (LE_fr (Q := fun k => [141].contains k) LL (mf_tr (mf_tr xS_f xS_f) xS_f) (mf_ai (mf_ai (mf_ai mf_rfl rfl) rfl) rfl) rfl rfl rfl) with ⟨σ', μ', i1, i2, S5⟩ | G2
  · exact Good_2 A (hx.trans i1) (hm.trans i2) (GK_lo G S5.1 L)
  · exact good_G A hx hm G2
