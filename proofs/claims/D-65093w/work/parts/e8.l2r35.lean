/-! LAYER 2: step rules: EACH -/
/-- the loop's three values are pushed -/
theorem e609_s {N j : Nat} {v3 v4 v5 v8 P t : Int32} {v : Int64} {μ : mS} (h : v8 < 3) (hP : sF μ 143 = P) (P0 : 0 ≤ P) (P1 : P < 500000) (i0 : 0 ≤ v3 + v4 + v8) (i1 : v3 + v4 + v8 < 500000) (ht : sI μ 141 (v3 + v4 + v8) = t) (hv : sJ μ 142 (v3 + v4 + v8) = v) (t0 : 0 ≤ t) (t1 : t ≤ 8) : mm_actMore_609 N (j + 1) v3 v4 v5 v8 μ = mm_actMore_609 N j v3 v4 v5 (v8 + 1) (mPu μ t v) := by
  have q1 : μ.2.2.1 141 (v3 + v4 + v8).toNatClampNeg = t := ht
  have q2 : μ.2.2.2 142 (v3 + v4 + v8).toNatClampNeg = v := hv
  rw [mm_actMore_609, if_neg (Int32.not_le.mpr h), gd_in (by decide) i0 i1, gd_in (by decide) i0 i1, q1, q2, push_mP hP P0 P1 t0 t1, bd_so, lt]
theorem e609_e {N j : Nat} {v3 v4 v5 P : Int32} {μ : mS} (hP : sF μ 143 - 3 = P) : mm_actMore_609 N (j + 1) v3 v4 v5 3 μ = mm_call N μ P 2 v5 0 := by
  rw [mm_actMore_609, if_pos (by decide), show μ.1 143 - 3 = P from hP, more_b]
theorem e3_1 {P : Int32} (h0 : 0 ≤ P) (h1 : P ≤ 480000) : P + 3 - 3 = P ∧ P + 2 + 1 = P + 3 ∧ P + 1 + 1 = P + 2 ∧ ¬ P = P + 1 ∧ ¬ P = P + 2 ∧ ¬ P + 1 = P + 2 ∧ P ≤ P + 1 ∧ P ≤ P + 2 := ⟨by lia, by lia, by lia, by lia, by lia, by lia, by lia, by lia⟩
theorem e609 {N : Nat} {μ : mS} {k0 v3 v4 v5 P b t1 t2 t3 : Int32} {v1 v2 v3' : Int64} (h : sF μ 143 = P) (P0 : 0 ≤ P) (P1 : P ≤ 480000) (hb : v3 + v4 = b) (b0 : 0 ≤ b) (b1 : b + 2 < P) (b2 : b < 490000) (x1 : sI μ 141 b = t1 ∧ sJ μ 142 b = v1) (x2 : sI μ 141 (b + 1) = t2 ∧ sJ μ 142 (b + 1) = v2) (x3 : sI μ 141 (b + 2) = t3 ∧ sJ μ 142 (b + 2) = v3') (a1 : 0 ≤ t1 ∧ t1 ≤ 8) (a2 : 0 ≤ t2 ∧ t2 ≤ 8) (a3 : 0 ≤ t3 ∧ t3 ≤ 8) (hN : 10 ≤ N) : ∃ τ, mm_actMore_609 N N v3 v4 v5 0 μ = mm_call N τ P 2 v5 0 ∧ sF τ 143 = P + 3 ∧ mtc k0 P μ τ ∧ m_fr (fun k => [141, 142, 143, 153].contains k) μ τ ∧ (sI τ 141 P = t1 ∧ sJ τ 142 P = v1) ∧ (sI τ 141 (P + 1) = t2 ∧ sJ τ 142 (P + 1) = v2) ∧ (sI τ 141 (P + 2) = t3 ∧ sJ τ 142 (P + 2) = v3') := by
  have bb := bnd3 P0 P1
  have E := e3_1 P0 P1
  have h1 : sF (mPu μ t1 v1) 143 = P + 1 := by rw [mPu_143, h]
  have h2 : sF (mPu (mPu μ t1 v1) t2 v2) 143 = P + 2 := by rw [mPu_143, h1]; exact E.2.2.1
  have h3 : sF (mPu (mPu (mPu μ t1 v1) t2 v2) t3 v3') 143 = P + 3 := by rw [mPu_143, h2]; exact E.2.1
  have g0 : 0 ≤ sF μ 143 := by rw [h]; exact P0
  have g1 : 0 ≤ sF (mPu μ t1 v1) 143 := by rw [h1]; exact bb.2.1.1
  have g2 : 0 ≤ sF (mPu (mPu μ t1 v1) t2 v2) 143 := by rw [h2]; exact bb.2.2.1.1
  have B : (0 ≤ b + 1 ∧ b + 1 < 500000) ∧ (0 ≤ b + 2 ∧ b + 2 < 500000) ∧ ¬ b + 1 = P ∧ ¬ b + 2 = P ∧ ¬ b + 2 = P + 1 ∧ b < 500000 := by clear x1 x2 x3 h1 h2 h3 g0 g1 g2 h; exact ⟨⟨by lia, by lia⟩, ⟨by lia, by lia⟩, by lia, by lia, by lia, by lia⟩
  obtain ⟨j, hj⟩ : ∃ j, N = j + 1 + 1 + 1 + 1 := ⟨N - 4, by omega⟩
  have hJ : mm_actMore_609 N N v3 v4 v5 0 μ = mm_actMore_609 N (j + 1 + 1 + 1 + 1) v3 v4 v5 0 μ := congrArg (fun J => mm_actMore_609 N J v3 v4 v5 0 μ) hj
  have e0 : v3 + v4 + 0 = b := by rw [hb]; lia
  have e1 : v3 + v4 + (0 + 1) = b + 1 := by rw [hb]; lia
  have e2 : v3 + v4 + (0 + 1 + 1) = b + 2 := by rw [hb]; lia
  refine ⟨mPu (mPu (mPu μ t1 v1) t2 v2) t3 v3', ?_, h3, mtc_tr (mtc_tr (mPu_y g0 (by rw [h]; exact Int32.le_refl _)) (mPu_y g1 (by rw [h1]; exact E.2.2.2.2.2.2.1))) (mPu_y g2 (by rw [h2]; exact E.2.2.2.2.2.2.2)), mf_tr (mf_tr mPu_fr mPu_fr) mPu_fr, ?_, ?_, ?_⟩
  · have r1 := e609_s (N := N) (j := j + 1 + 1 + 1) (v5 := v5) (v3 := v3) (v4 := v4) (v8 := 0) (t := t1) (v := v1) (by decide) h bb.1.1 bb.1.2 (by rw [e0]; exact b0) (by rw [e0]; exact B.2.2.2.2.2) (by rw [e0]; exact x1.1) (by rw [e0]; exact x1.2) a1.1 a1.2
    have r2 := e609_s (N := N) (j := j + 1 + 1) (v5 := v5) (v3 := v3) (v4 := v4) (v8 := 0 + 1) (t := t2) (v := v2) (by decide) h1 bb.2.1.1 bb.2.1.2 (by rw [e1]; exact B.1.1) (by rw [e1]; exact B.1.2) (by rw [e1, mPu_I g0 B.1.1, h, if_neg B.2.2.1]; exact x2.1) (by rw [e1, mPu_J g0 B.1.1, h, if_neg B.2.2.1]; exact x2.2) a2.1 a2.2
    have r3 := e609_s (N := N) (j := j + 1) (v5 := v5) (v3 := v3) (v4 := v4) (v8 := 0 + 1 + 1) (t := t3) (v := v3') (by decide) h2 bb.2.2.1.1 bb.2.2.1.2 (by rw [e2]; exact B.2.1.1) (by rw [e2]; exact B.2.1.2) (by rw [e2, mPu_I g1 B.2.1.1, h1, if_neg B.2.2.2.2.1, mPu_I g0 B.2.1.1, h, if_neg B.2.2.2.1]; exact x3.1) (by rw [e2, mPu_J g1 B.2.1.1, h1, if_neg B.2.2.2.2.1, mPu_J g0 B.2.1.1, h, if_neg B.2.2.2.1]; exact x3.2) a3.1 a3.2
    rw [hJ, r1, r2, r3]
    rw [show (0 : Int32) + 1 + 1 + 1 = 3 from by decide, e609_e (P := P) (by rw [h3]; exact E.1)]
  · rw [mPu_I g2 bb.1.1, mPu_J g2 bb.1.1, h2, if_neg E.2.2.2.2.1, if_neg E.2.2.2.2.1, mPu_I g1 bb.1.1, mPu_J g1 bb.1.1, h1, if_neg E.2.2.2.1, if_neg E.2.2.2.1, mPu_I g0 bb.1.1, mPu_J g0 bb.1.1, h, if_pos rfl, if_pos rfl]
    exact ⟨rfl, rfl⟩
  · rw [mPu_I g2 bb.2.1.1, mPu_J g2 bb.2.1.1, h2, if_neg E.2.2.2.2.2.1, if_neg E.2.2.2.2.2.1, mPu_I g1 bb.2.1.1, mPu_J g1 bb.2.1.1, h1, if_pos rfl, if_pos rfl]
    exact ⟨rfl, rfl⟩
  · rw [mPu_I g2 bb.2.2.1.1, mPu_J g2 bb.2.2.1.1, h2, if_pos rfl, if_pos rfl]
    exact ⟨rfl, rfl⟩
theorem ea_1 {a : Int32} (a0 : 0 ≤ a) (a1 : a ≤ 2490) : ¬ a + 1 + 2 ≤ a + 1 ∧ ¬ a + 1 + 2 ≤ a + 1 + 1 ∧ a + 1 + 2 ≤ a + 1 + 1 + 1 ∧ a + 1 + 1 = a + 2 ∧ 0 ≤ a + 1 ∧ 0 ≤ a + 2 ∧ a + 1 ≤ 3000 ∧ a + 2 + 1 = a + 3 := ⟨by lia, by lia, by lia, by lia, by lia, by lia, by lia, by lia⟩
theorem each_g {N j : Nat} {a : Int32} {σ : mS} {α : Type} (a0 : 0 ≤ a) (a1 : a ≤ 2490) (k : mS → Option α) : bd (xx6_gather_b35 N (j + 3) (a + 1 + 2) (a + 1) σ) k = bd (xx6_tag N σ (a + 1)) (fun z87 => bd (xx6_value N z87.2 (a + 1)) (fun z88 => bd (xx6_arg N z88.2 z87.1 z88.1) (fun z89 => bd (xx6_tag N z89 (a + 2)) (fun z90 => bd (xx6_value N z90.2 (a + 2)) (fun z91 => bd (xx6_arg N z91.2 z90.1 z91.1) k))))) := by
  have h := ea_1 a0 a1
  have s1 : ∀ τ, xx6_gather_b35 N (j + 1) (a + 1 + 2) (a + 1 + 1 + 1) τ = some τ := fun τ => by rw [xx6_gather_b35, if_pos h.2.2.1]
  have s2 : ∀ τ, xx6_gather_b35 N (j + 1 + 1) (a + 1 + 2) (a + 1 + 1) τ = bd (xx6_tag N τ (a + 2)) (fun z1 => bd (xx6_value N z1.2 (a + 2)) (fun z2 => xx6_arg N z2.2 z1.1 z2.1)) := fun τ => by
    rw [xx6_gather_b35, if_neg h.2.1, h.2.2.2.1]
    congr 1
    funext z1
    congr 1
    funext z2
    refine bd_me (fun z => ?_)
    rw [lt, ← h.2.2.2.1, s1]
  have s3 : xx6_gather_b35 N (j + 3) (a + 1 + 2) (a + 1) σ = bd (xx6_tag N σ (a + 1)) (fun z1 => bd (xx6_value N z1.2 (a + 1)) (fun z2 => bd (xx6_arg N z2.2 z1.1 z2.1) (fun z3 => bd (xx6_tag N z3 (a + 2)) (fun z4 => bd (xx6_value N z4.2 (a + 2)) (fun z5 => xx6_arg N z5.2 z4.1 z5.1))))) := by
    show xx6_gather_b35 N (j + 1 + 1 + 1) (a + 1 + 2) (a + 1) σ = _
    rw [xx6_gather_b35, if_neg h.1]
    congr 1
    funext z1
    congr 1
    funext z2
    congr 1
    funext z3
    rw [lt, s2]
  rw [s3]
  simp only [bd_bd]
def eachK (N : Nat) (a2 : Nat) (a3 x6 : Int32) (z92 : mS) : Option (Except (Nat × mS) mS) := gd (inB ((z92.1 411)) 202) (lt (md_ai z92 353 (Int32.toNatClampNeg ((z92.1 411))) ((x6 + (3 : Int32)))) (fun σ93 : mS => bd (xx6_tag N σ93 (x6)) (fun z94 => bd (xx6_value N z94.2 (x6)) (fun z95 => gd (x_aB 3 (a2)) (gd (inB ((a3 + (2 : Int32))) (x_ln (a2))) (bx (xx6_begin N z95.2 (z94.1) (z95.1) ((0 : Int32)) ((x6 + (3 : Int32))) ((z95.2.2.2.1 (a2) (Int32.toNatClampNeg ((a3 + (2 : Int32))))))) (fun z96 => xx6_rare_b672 N z96)))))))
theorem rf_31c {N : Nat} {σ : mS} {a2 : Nat} {a3 x6 : Int32} : rareF N σ 31 a2 a3 x6 = lt (md_pi σ 399 ((0 : Int32))) (fun σ86 : mS => bd (xx6_tag N σ86 ((x6 + (1 : Int32)))) (fun z87 => bd (xx6_value N z87.2 ((x6 + (1 : Int32)))) (fun z88 => bd (xx6_arg N z88.2 (z87.1) (z88.1)) (fun z89 => bd (xx6_tag N z89 ((x6 + (2 : Int32)))) (fun z90 => bd (xx6_value N z90.2 ((x6 + (2 : Int32)))) (fun z91 => bd (xx6_arg N z91.2 (z90.1) (z91.1)) (eachK N a2 a3 x6))))))) := rfl
theorem eachK_x {e : EV} {w : WD} {xf : Int32 → List Int32} {c d : Int32} {rest : PL2} {f : Int32} {fl : List Int32} {ρ : List Int32} {m : Int32} {g p q F n : Int32} {σ μ : mS} {υ : mS} {p0 a want : Int32} (S : ST e w xf c d rest f fl ρ m g p q F n σ μ) (fr : m_fr (fun k => [397, 398, 399].contains k) σ υ) (ho : 0 ≤ p0 ∧ p0 < 339900) (h2 : nx e (p0 + 2) = want) (r0 : 0 ≤ a) (r1 : a < sI σ 349 f) {N : Nat} : eachK N 256 p0 a υ = xx6_begin N (md_ai υ 353 f.toNatClampNeg (a + 3)) (xt σ f a) (xv σ f a) 0 (a + 3) want := by
  have o := ops_1 ho.1 ho.2
  have f01 := (PT_N S.1).1
  have e411 : υ.1 411 = f := (mf_F fr (k := 411) rfl).trans S.2.2
  have fr2 : m_fr (fun k => [353, 397, 398, 399].contains k) σ (md_ai υ 353 f.toNatClampNeg (a + 3)) := mf_ai (mf_mono fr (fun k hk => by
    simp only [List.contains_cons, List.contains_nil, Bool.or_eq_false_iff, beq_eq_false_iff_ne] at hk ⊢
    (repeat' (first | exact trivial | omega | apply And.intro)))) rfl
  have h256' : ∀ i : Int32, (md_ai υ 353 f.toNatClampNeg (a + 3)).2.2.1 256 i.toNatClampNeg = nx e i := fun i => (mf_I fr2 (k := 256) rfl).trans (xP_256 S.1 i)
  obtain ⟨t1, t2⟩ := rd_fr (N := N) S fr2 rfl rfl rfl r0 r1
  rw [eachK, e411, gd_in (by decide) f01.1 f01.2, lt, t1, bd_so, t2, bd_so, show x_aB 3 256 = true from rfl, show x_ln 256 = 340000 from rfl, gd_tt, gd_in (by decide) o.2.1.1 o.2.1.2, rare_b, h256', h2]
theorem ea_2 {a R : Int32} (a0 : 0 ≤ a) (a1 : a ≤ 2490) (h : a + 3 ≤ R) : a < R ∧ a + 1 < R ∧ a + 2 < R := ⟨by lia, by lia, by lia⟩
theorem ea_3 {a : Int32} {k : Int32} (k0 : 0 ≤ k) (k1 : k < 2) : (k = 0 ∨ k = 1) ∧ a + 1 + 0 = a + 1 ∧ a + 1 + 1 = a + 2 := ⟨by lia, by lia, by lia⟩
theorem ea_4 {P : Int32} : P + 3 = P + 2 + 1 ∧ P + 1 + 0 = P + 1 ∧ P + 1 + 1 = P + 2 := ⟨by lia, by lia, by lia⟩
/-- EACH -/
theorem r_each {e : EV} {w : WD} {xf : Int32 → List Int32} {c d : Int32} {rest : PL2} {f : Int32} {fl : List Int32} {ρ : List Int32} {g p q F n : Int32} {σ μ : mS} {M rk : Nat} {a want : Int32} {j : Nat} (C : CXT e M F n rk) (hk : rk ≤ 2000000) (A : PT e w xf c d rest f fl ρ (-1) g p q F n σ μ) (z : eZ e rk g p q ρ (-1)) (ho : opx e p 31) (ha : acm e q 39) (ln : lin e p q) (h1 : nx e (p + 1) = a) (h2 : nx e (p + 2) = want) (a0 : 0 ≤ a) (a25 : a ≤ 2490) (hj : j + 2 < ρ.length) (s0 : ρ.getD j 0 = a) (s1 : ρ.getD (j + 1) 0 = a + 1) (s2 : ρ.getD (j + 2) 0 = a + 2) (hv : sI (eμ e) 71 q = Int32.ofNat j) (hw : sI (eμ e) 72 q = want) (w0 : 0 ≤ want) (ok : okr ρ (a + 3) want (sI (eσ e) 261 g)) (V : lvS e g ρ (a + 3)) (L : lo e rk g (p + 3) (q + 1) (ρ ++ rng (a + 3) want) (-1)) : Good e (M + 3000) σ μ := by
  obtain ⟨E, hM, Z, _, _, G, _, _⟩ := id C
  have hx := PT_x A ho (fun s => rfl)
  have S := PT_s A 3
  have LL := PT_LE (k := 0) A ho ln 3
  have o := ops_1 ho.1.1 ho.1.2
  have e3 : mff (actP μ (n - 1) q) (n - 1) 3 = mff μ (n - 1) 3 := mf_I actP_fr rfl
  have hm := act_f A ha
  rw [af_39, act_g A ha, mf_39, act_b, hv, hw, ← e3] at hm
  have h256 := fun i => xP_256 S.1 i
  obtain ⟨k1, xa, xl⟩ := rare_k (N := eN e) (k := 31) ho.1.1 ho.1.2 h256
  rw [sf_31, rare_s, k1, rf_31c, h1, lt] at hx
  clear k1 e3 h256
  generalize xP σ f p 3 = τ at hx S LL
  generalize actP μ (n - 1) q = τm at hm S LL
  have zk0 := zk_of Z z
  have hl := zk0.1
  obtain ⟨g1, g2, g3, g4, g5⟩ := PT_at S.1 zk0.1
  have ea := ea_1 a0 a25
  have B0 := g5 j (by omega) ρ.length (by omega)
  have p1 : mff τm (n - 1) 3 + Int32.ofNat j + 1 = mff τm (n - 1) 3 + Int32.ofNat (j + 1) := b_p1
  have p2 : mff τm (n - 1) 3 + Int32.ofNat j + 2 = mff τm (n - 1) 3 + Int32.ofNat (j + 2) := by rw [← b_p1, ← p1]; lia
  have v0 := g1 j (by omega)
  have v1 := g1 (j + 1) (by omega)
  have v2 := g1 (j + 2) hj
  rw [s0] at v0
  rw [s1, ← p1] at v1
  rw [s2, ← p2] at v2
  have w0' := RV_V v0 a0
  have w1' := RV_V v1 ea.2.2.2.2.1
  have w2' := RV_V v2 ea.2.2.2.2.2.1
  have N := (PT_N S.1).2.2.1
  have bl := oN_bd hl
  have ll := oN_lt2 hj hl
  have Pb : (0 ≤ mff τm (n - 1) 3 + Int32.ofNat ρ.length ∧ mff τm (n - 1) 3 + Int32.ofNat ρ.length ≤ 480000) ∧ mff τm (n - 1) 3 + Int32.ofNat (j + 2) < mff τm (n - 1) 3 + Int32.ofNat ρ.length := by
    have n1 := N.1
    have n2 := N.2
    clear g1 g5 v0 v1 v2 w0' w1' w2' hx hm LL
    exact ⟨⟨by lia, by lia⟩, by lia⟩
  have Jb : mff τm (n - 1) 3 + Int32.ofNat j < 490000 := by
    have n1 := N.1
    have n2 := N.2
    have lj := oN_bd (n := j) (by omega)
    clear g1 g5 v0 v1 v2 w0' w1' w2' hx hm LL
    lia
  rw [← p2] at Pb
  obtain ⟨υm, m1, m2, m3, m4, m5, m6, m7⟩ := e609 (N := eN e) (k0 := n - 1) (v5 := want) g2 Pb.1.1 Pb.1.2 (v3 := mff τm (n - 1) 3) (v4 := Int32.ofNat j) rfl B0.1.1 Pb.2 Jb ⟨rfl, rfl⟩ ⟨rfl, rfl⟩ ⟨rfl, rfl⟩ (VV_t8 w0').2 (VV_t8 w1').2 (VV_t8 w2').2 (by have := C.1.1; omega)
  rw [m1] at hm
  have e3' : mff υm (n - 1) 3 = mff τm (n - 1) 3 := mf_I (k := 147) m4 rfl
  have S2 := ST_up S hl g2 m3 ((mf_I (k := 146) m4 rfl).trans g4)
  generalize eP : mff τm (n - 1) 3 + Int32.ofNat ρ.length = P at *
  have L' : LE τ (mff υm) f (n - 1) := LE_fr LL (P := fun _ => false) mf_rfl m4 rfl rfl rfl
  have R9 := (PT_k S.1 zk0).2.2.2.2.1.1
  have aR := ea_2 a0 a25 (Int32.le_trans V.2.1 R9)
  rw [← m5.1, ← m5.2] at w0'
  rw [← m6.1, ← m6.2] at w1'
  rw [← m7.1, ← m7.2] at w2'
  obtain ⟨υ, u1, fr, GG⟩ := call_S (r := a + 1) (nn := 2) (md := 0) (rg := a + 3) (wt := want) (wn := want) (th := 0) (live := a + 3) C S2 hl (by rw [e3']; exact eP.symm) L' (LV_S S2 V) (by decide) (by decide) ea.2.2.2.2.1 ea.2.2.2.2.2.2.1 (fun k k0 k1 => by
    have K := ea_3 (a := a) k0 k1
    rcases K.1 with rfl | rfl
    · rw [K.2.1]; exact aR.2.1
    · rw [K.2.2]; exact aR.2.2) (m2.trans ea_4.1) w0' (fun k k0 k1 => by
    have K := ea_3 (a := a) k0 k1
    rcases K.1 with rfl | rfl
    · rw [K.2.1, ea_4.2.1]; exact w1'
    · rw [K.2.2, ea_4.2.2]; exact w2') (.inl ⟨rfl, rfl, rfl, w0, ok, lo_S hk L⟩)
  obtain ⟨jN, hjN⟩ : ∃ i, eN e = i + 3 := ⟨eN e - 3, by have := C.1.1; omega⟩
  have eg := each_g (N := eN e) (j := jN) (a := a) (σ := md_pi τ 399 0) a0 a25 (eachK (eN e) 256 p a)
  rw [← hjN, u1, bd_so, eachK_x S fr ho.1 h2 a0 aR.1] at eg
  exact good_G A (hx.trans eg.symm) hm GG
