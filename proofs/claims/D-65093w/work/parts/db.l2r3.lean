/-! LAYER 2: step rules: registers alone, nils, tests -/
theorem xS_I {σ : mS} {i t m : Int32} {v : Int64} (i0 : 0 ≤ i) (m0 : 0 ≤ m) : sI (xS σ i t v) 364 m = if m = i then t else sI σ 364 m := by
  rw [show sI (xS σ i t v) 364 m = sI (md_ai σ 364 i.toNatClampNeg t) 364 m from rfl, sI_aj i0 m0]
theorem xS_J {σ : mS} {i t m : Int32} {v : Int64} (i0 : 0 ≤ i) (m0 : 0 ≤ m) : sJ (xS σ i t v) 365 m = if m = i then v else sJ σ 365 m := by
  rw [xS, sJ_lj i0 m0]; rfl
theorem xS_f {σ : mS} {i t : Int32} {v : Int64} : m_fr (fun k => [364, 365].contains k) σ (xS σ i t v) := mf_al (mf_ai mf_rfl rfl) rfl
theorem xS_tc {σ : mS} {f R b i t : Int32} {v : Int64} (hb : sI σ 347 f = b) (i0 : 0 ≤ i) (h0 : b ≤ i) (h1 : i < b + R) : xtc f R σ (xS σ i t v) := by
  refine ⟨mf_al (mf_ai mf_rfl rfl) rfl, fun k hk j _ _ => ?_, fun j j0 jB => ⟨?_, ?_⟩⟩
  · rcases hk with rfl | rfl | rfl | rfl <;> exact mf_I xS_f rfl
  · rw [xS_I i0 j0, if_neg (fun q => by rw [hb] at jB; subst q; rcases jB with q | q <;> lia)]
  · rw [xS_J i0 j0, if_neg (fun q => by rw [hb] at jB; subst q; rcases jB with q | q <;> lia)]
theorem rg_ne {b r s : Int32} (b0 : 0 ≤ b) (b1 : b ≤ 560000) (r0 : 0 ≤ r) (r1 : r ≤ 2700) (s0 : 0 ≤ s) (s1 : s ≤ 2700) : (b + s = b + r ↔ s = r) ∧ 0 ≤ b + s := ⟨⟨fun h => by lia, fun h => by rw [h]⟩, by lia⟩
theorem rg_in {b r R T : Int32} (b0 : 0 ≤ b) (b1 : b + T ≤ 560000) (bm : b ≤ 560000) (T1 : T ≤ 2600) (r0 : 0 ≤ r) (r1 : r + 1 ≤ R) (rm : r ≤ 2500) (RT : R ≤ T) : (0 ≤ b + r ∧ b + r ≤ 600000) ∧ b ≤ b + r ∧ b + r < b + R := ⟨⟨by lia, by lia⟩, by lia, by lia⟩
theorem rg_i2 {b r T : Int32} (b0 : 0 ≤ b) (b1 : b + T ≤ 560000) (bm : b ≤ 560000) (T1 : T ≤ 2600) (r0 : 0 ≤ r) (r1 : r < T) : 0 ≤ b + r ∧ b + r < 560000 := ⟨by lia, by lia⟩
/-- what is known of a point's registers -/
def zk (e : EV) (g : Int32) (ρ : List Int32) : Prop := ρ.length ≤ 2000 ∧ ∀ x, x ∈ ρ → dc x < sI (eσ e) 261 g
theorem zk_of {e : EV} (Z : ZRok e) {rk : Nat} {g p q : Int32} {ρ : List Int32} {m : Int32} (z : eZ e rk g p q ρ m) : zk e g ρ := Z _ _ _ _ _ _ z
theorem zk_l {e : EV} {g : Int32} {a b : List Int32} (h : zk e g (a ++ b)) : zk e g a := ⟨by have := h.1; rw [List.length_append] at this; omega, fun x hx => h.2 x (List.mem_append_left _ hx)⟩
theorem PT_k {e : EV} {w : WD} {xf : Int32 → List Int32} {c d : Int32} {rest : PL2} {f : Int32} {fl : List Int32} {ρ : List Int32} {m : Int32} {g p q F n : Int32} {σ μ : mS} (A : PT e w xf c d rest f fl ρ m g p q F n σ μ) (z : zk e g ρ) : ρ.length ≤ 2000 ∧ (∀ x, x ∈ ρ → dc x < sI σ 349 f) ∧ (0 ≤ sI σ 347 f ∧ sI σ 347 f ≤ 560000 ∧ sI σ 347 f + sI σ 349 f ≤ 560000 ∧ sI σ 349 f ≤ 2600) ∧ (0 ≤ f ∧ f < 202) ∧ (sI (eσ e) 261 g ≤ sI σ 349 f ∧ sI (eσ e) 261 g ≤ 2500) ∧ (1 ≤ n ∧ n ≤ 200) ∧ (0 ≤ mff μ (n - 1) 3 ∧ mff μ (n - 1) 3 ≤ 460000) := by
  have b := MR0_f A.1.1
  obtain ⟨z1, z2⟩ := z
  have R := PT_R A
  rw [R, A.2.2.2.2.2] at b
  have b5 := b.2.2.2.2
  exact ⟨z1, fun x hx => Int32.lt_of_lt_of_le (z2 x hx) b.2.1.2.2, b.2.2.1, b.1, ⟨b.2.1.2.2, b.2.1.2.1⟩, b.2.2.2.1, Int32.le_trans b5.1 (Int32.le_of_lt b5.2.1), b5.2.2⟩
/-- a free register is written -/
theorem set_1 {e : EV} {w : WD} {xf : Int32 → List Int32} {c d : Int32} {rest : PL2} {f : Int32} {fl : List Int32} {ρ : List Int32} {g p q F n : Int32} {σ μ : mS} (S : ST e w xf c d rest f fl ρ (-1) g p q F n σ μ) (z : zk e g ρ) {r t : Int32} {v : Int64} (ok : okr ρ r 1 (sI (eσ e) 261 g)) (t0 : 0 ≤ t) (t1 : t ≤ 8) {N : Nat} : xx6_set N σ r t v = some (xS σ (sI σ 347 f + r) t v) ∧ ST e w xf c d rest f fl ρ (-1) g p q F n (xS σ (sI σ 347 f + r) t v) μ ∧ (xt (xS σ (sI σ 347 f + r) t v) f r = t ∧ xv (xS σ (sI σ 347 f + r) t v) f r = v) ∧ ∀ s, 0 ≤ s → s ≤ 2600 → s ≠ r → xt (xS σ (sI σ 347 f + r) t v) f s = xt σ f s ∧ xv (xS σ (sI σ 347 f + r) t v) f s = xv σ f s := by
  obtain ⟨z1, z2, z3, z4, z5, z6, z7⟩ := PT_k S.1 z
  obtain ⟨ir, s1, _, _⟩ := set_x (N := N) (t := t) (v := v) S ok.1 ok.2.1 ok.2.2.2.2.1 t0 t1
  have I := rg_in z3.1 z3.2.2.1 z3.2.1 z3.2.2.2 ok.1 ok.2.2.2.2.1 ok.2.1 z5.1
  have e347 : sI (xS σ (sI σ 347 f + r) t v) 347 f = sI σ 347 f := mf_I xS_f rfl
  have rd : ∀ s, 0 ≤ s → s ≤ 2600 → s ≠ r → xt (xS σ (sI σ 347 f + r) t v) f s = xt σ f s ∧ xv (xS σ (sI σ 347 f + r) t v) f s = xv σ f s := fun s s0 s1 ne => by
    have Q := rg_ne (r := r) (s := s) z3.1 z3.2.1 ok.1 (Int32.le_trans ok.2.1 (by decide)) s0 (Int32.le_trans s1 (by decide))
    simp only [xt, xv]
    rw [e347, xS_I ir.1 Q.2, xS_J ir.1 Q.2, if_neg (fun q => ne (Q.1.mp q)), if_neg (fun q => ne (Q.1.mp q))]
    exact ⟨rfl, rfl⟩
  have T := S.1.1.2
  rw [S.1.2.2.2.2.2] at T
  obtain ⟨T1, T2⟩ := TP_1 T
  have hq := S.1.2.2.2.1
  rw [S.1.2.2.2.2.2] at hq
  have PM := PT_mk S.1 (xS_tc (t := t) (v := v) rfl ir.1 I.2.1 I.2.2) mtc_rfl ((mf_I xS_f rfl).trans S.1.2.2.1) hq (ρ' := ρ) (m' := -1) (.inl ⟨rfl, RG_cg T1 wle_rfl (fun x hx x0 => rd _ x0 (Int32.le_trans (Int32.le_of_lt (z2 x hx)) z3.2.2.2) (fun q => by rcases ok.2.2.2.2.2 x hx with k | k <;> lia)) (fun _ _ => ⟨rfl, rfl⟩), T2⟩)
  refine ⟨s1, ⟨PM, ?_, ?_⟩, ⟨?_, ?_⟩, rd⟩
  · rw [e347]; exact (mf_F xS_f rfl).trans S.2.1
  · exact (mf_F xS_f rfl).trans S.2.2
  · simp only [xt]
    rw [e347, xS_I ir.1 ir.1, if_pos rfl]
  · simp only [xv]
    rw [e347, xS_J ir.1 ir.1, if_pos rfl]
/-- one value more, on both sides -/
theorem push_1 {e : EV} {w : WD} {xf : Int32 → List Int32} {c d : Int32} {rest : PL2} {f : Int32} {fl : List Int32} {ρ : List Int32} {g p q F n : Int32} {σ μ : mS} (S : ST e w xf c d rest f fl ρ (-1) g p q F n σ μ) (z : zk e g ρ) {r tx tm : Int32} {vx vm : Int64} (ok : okr ρ r 1 (sI (eσ e) 261 g)) (v : VV w tx vx tm vm) {N N' : Nat} : xx6_set N σ r tx vx = some (xS σ (sI σ 347 f + r) tx vx) ∧ mm_push N' μ tm vm = some (mPu μ tm vm) ∧ ST e w xf c d rest f fl (ρ ++ [r]) (-1) g p q F n (xS σ (sI σ 347 f + r) tx vx) (mPu μ tm vm) := by
  have t8 := VV_t8 v
  obtain ⟨s1, S1, ⟨s2, s3⟩, _⟩ := set_1 (N := N) (t := tx) (v := vx) S z ok t8.1.1 t8.1.2
  obtain ⟨p1, p2⟩ := push_m1 (N := N') (x := r) S1.1 z.1 (.inr (.inl ⟨ok.1, by rw [s2, s3]; exact v⟩))
  exact ⟨s1, p1, p2, S1.2⟩
/-- other names for the same values -/
theorem PT_ren {e : EV} {w : WD} {xf : Int32 → List Int32} {c d : Int32} {rest : PL2} {f : Int32} {fl : List Int32} {ρ : List Int32} {g p q F n : Int32} {σ μ : mS} (A : PT e w xf c d rest f fl ρ (-1) g p q F n σ μ) (h3 : ρ.length ≤ 2000) {ρ' : List Int32} (hl : ρ'.length = ρ.length) (h : ∀ j, j < ρ.length → ∀ t v, RV w σ f (ρ.getD j 0) t v → RV w σ f (ρ'.getD j 0) t v) : PT e w xf c d rest f fl ρ' (-1) g p q F n σ μ := by
  obtain ⟨h1, h2, _, h4, h5⟩ := PT_at A h3
  exact PT_pile A mtc_rfl h4 (by rw [hl]; exact h2) (fun j hj => h j (by omega) _ _ (h1 j (by omega)))
/-- GO -/
theorem r_go {e : EV} {w : WD} {xf : Int32 → List Int32} {c d : Int32} {rest : PL2} {f : Int32} {fl : List Int32} {ρ : List Int32} {m : Int32} {g p q F n : Int32} {σ μ : mS} {M rk : Nat} (G : GK e M F n rk) (A : PT e w xf c d rest f fl ρ m g p q F n σ μ) (ho : opx e p 21) (L : lo e rk g (nx e (p + 1)) q ρ m) : Good e (M + 3000) σ μ := by
  have hx := PT_x A ho (fun s => rfl)
  have S := PT_sx A 2
  have o := ops_1 ho.1.1 ho.1.2
  have f01 := (PT_N A).1
  refine Good_x A (τ := md_ai (xP σ f p 2) 346 f.toNatClampNeg (nx e (p + 1))) ?_ (GK_lo G (PT_go S.1.1 _) L)
  rw [hx, sf_21, gd_in (by decide) o.1.1 o.1.2, show (xP σ f p 2).1 411 = f from S.1.2.2, gd_in (by decide) f01.1 f01.2, xP_256 S.1.1, lt]; rfl
/-- MOVE, alone: another register for some values -/
theorem r_move {e : EV} {w : WD} {xf : Int32 → List Int32} {c d : Int32} {rest : PL2} {f : Int32} {fl : List Int32} {ρ : List Int32} {g p q F n : Int32} {σ μ : mS} (Z : ZRok e) {M rk : Nat} (G : GK e M F n rk) (A : PT e w xf c d rest f fl ρ (-1) g p q F n σ μ) (z : eZ e rk g p q ρ (-1)) (ho : opx e p 5) (ok : okr ρ (nx e (p + 1)) 1 (sI (eσ e) 261 g)) (hr : nx e (p + 2) ∈ ρ) (r0 : 0 ≤ nx e (p + 2)) {ρ' : List Int32} (hl : ρ'.length = ρ.length) (hρ : ∀ j, j < ρ.length → ρ'.getD j 0 = ρ.getD j 0 ∨ (ρ.getD j 0 = nx e (p + 2) ∧ ρ'.getD j 0 = nx e (p + 1))) (L : lo e rk g (p + 3) q ρ' (-1)) : Good e (M + 3000) σ μ := by
  have hx := PT_x A ho (fun s => rfl)
  have S := (PT_sx A 3).1
  have o := ops_1 ho.1.1 ho.1.2
  obtain ⟨z1, z2, z3, z4, z5, z6, z7⟩ := PT_n Z S.1 z
  have T := S.1.1.2
  rw [S.1.2.2.2.2.2] at T
  obtain ⟨j, hj, ej⟩ := List.getElem_of_mem hr
  have v := RV_V (by have := RG_at (TP_1 T).1 hj; rw [List.getD_eq_getElem?_getD, List.getElem?_eq_getElem hj, Option.getD_some, ej] at this; exact this) r0
  have t8 := (VV_t8 v).1
  generalize hτ : xP σ f p 3 = τ at hx S z1 z2 z3 z4 z5 z6 z7 T v t8
  obtain ⟨s1, S1, ⟨s2, s3⟩, s4⟩ := set_1 (N := eN e) (t := xt τ f (nx e (p + 2))) (v := xv τ f (nx e (p + 2))) S (zk_of Z z) ok t8.1 t8.2
  have r1 := z2 _ hr
  rw [dc_p r0] at r1
  have r2 : nx e (p + 2) ≤ 2600 := Int32.le_trans (Int32.le_of_lt r1) z3.2.2.2
  refine Good_x A (τ := xS τ (sI τ 347 f + nx e (p + 1)) (xt τ f (nx e (p + 2))) (xv τ f (nx e (p + 2)))) ?_ (GK_lo G (PT_ren S1.1 z1 hl (fun k hk t vv rv => ?_)) L)
  · have e410 : τ.1 410 = sI τ 347 f := S.2.1
    have I := rg_i2 z3.1 z3.2.2.1 z3.2.1 z3.2.2.2 r0 r1
    have J := rg_i2 z3.1 z3.2.2.1 z3.2.1 z3.2.2.2 ok.1 (r := nx e (p + 1)) (Int32.lt_of_lt_of_le (r_1 ok.2.2.2.2.1 ok.1 ok.2.1 (z := 0)) z5.1)
    have nb : vp_nar .byte (τ.2.2.1 364 (sI τ 347 f + nx e (p + 2)).toNatClampNeg) = xt τ f (nx e (p + 2)) := tag_b t8.1 t8.2
    rw [hx, sf_5, gd_in (by decide) o.1.1 o.1.2, gd_in (by decide) o.2.1.1 o.2.1.2, ← hτ, xP_256 (PT_sx A 3).1.1, xP_256 (PT_sx A 3).1.1, hτ, xx6_copy, e410, gd_in (by decide) I.1 I.2, gd_in (by decide) J.1 J.2, nb, lt]
    rw [show (md_ai τ 364 (sI τ 347 f + nx e (p + 1)).toNatClampNeg (xt τ f (nx e (p + 2)))).1 410 = sI τ 347 f from e410, gd_in (by decide) I.1 I.2, gd_in (by decide) J.1 J.2, lt, bd_so]
    rfl
  · rcases hρ k hk with q | ⟨q, q'⟩
    · rw [q]; exact rv
    · rw [q] at rv
      rw [q']
      have vr := RV_V rv r0
      refine .inr (.inl ⟨ok.1, ?_⟩)
      by_cases cc : nx e (p + 2) = nx e (p + 1)
      · rw [cc] at vr; rw [cc]; exact vr
      · have a := s4 _ r0 r2 cc
        rw [a.1, a.2] at vr
        rw [s2, s3]; exact vr
theorem okr_i {ρ : List Int32} {r i cnt R : Int32} (ok : okr ρ r cnt R) (hR : R ≤ 2500) (i0 : 0 ≤ i) (i1 : i < cnt) : okr ρ (r + i) 1 R := by
  obtain ⟨a1, a2, a3, a4, a5, a6⟩ := ok
  refine ⟨by lia, by lia, by decide, by decide, by lia, fun x hx => ?_⟩
  · rcases a6 x hx with h | h
    · exact .inl (by lia)
    · exact .inr (by lia)
theorem i_nn {i cnt : Int32} (i0 : 0 ≤ i) (i1 : i < cnt) (h : cnt ≤ 2500) : 0 ≤ i + 1 ∧ i + 1 ≤ cnt ∧ (i + 1).toInt = i.toInt + 1 := by
  refine ⟨by lia, by lia, ?_⟩
  rw [tI_le] at i0 h
  rw [tI_lt] at i1
  have z0 : (0 : Int32).toInt = 0 := rfl
  have z1 : (1 : Int32).toInt = 1 := rfl
  have z2 : (2500 : Int32).toInt = 2500 := rfl
  rw [tI_add] <;> omega
theorem k_lt {k i r cnt : Int32} (k0 : 0 ≤ k) (k1 : k < i + 1) (ne : ¬ k = i) (i0 : 0 ≤ i) (i1 : i < cnt) (r0 : 0 ≤ r) (r1 : r ≤ 2500) (h : cnt ≤ 2500) {R : Int32} (hs : r + cnt ≤ R) (hR : R ≤ 2500) : k < i ∧ 0 ≤ r + k ∧ r + k ≤ 2600 ∧ r + k ≠ r + i := by
  exact ⟨by lia, by lia, by lia, fun q => ne (by lia)⟩
/-- NIL, a loop -/
theorem nil_lp {e : EV} {w : WD} {xf : Int32 → List Int32} {c d : Int32} {rest : PL2} {f : Int32} {fl : List Int32} {ρ : List Int32} {g p q F n : Int32} {σ μ : mS} (z : zk e g ρ) {p1 cnt r : Int32} (hp : 0 ≤ p1 ∧ p1 < 339900) (hr : nx e (p1 + 1) = r) (hc : nx e (p1 + 2) = cnt) (ok : okr ρ r cnt (sI (eσ e) 261 g)) {N : Nat} (j : Nat) (i : Int32) (i0 : 0 ≤ i) (i1 : i ≤ cnt) (hj : (cnt.toInt - i.toInt).toNat < j) : ∀ τ, ST e w xf c d rest f fl ρ (-1) g p q F n τ μ → (∀ k, 0 ≤ k → k < i → xt τ f (r + k) = 0 ∧ xv τ f (r + k) = 0) → ∃ υ, xx6_step_b242 N j p1 i τ = some (.ok υ) ∧ ST e w xf c d rest f fl ρ (-1) g p q F n υ μ ∧ (∀ k, 0 ≤ k → k < cnt → xt υ f (r + k) = 0 ∧ xv υ f (r + k) = 0) := by
  have o := ops_1 hp.1 hp.2
  induction j generalizing i with
  | zero => omega
  | succ j ih =>
    intro τ S h
    have hR := (PT_k S.1 z).2.2.2.2.1.2
    have rd : ∀ t : Int32, τ.2.2.1 256 t.toNatClampNeg = nx e t := fun t => SV_cx (k := 256) (PT_V S.1) (by omega) t
    rw [xx6_step_b242, gd_in (by decide) o.2.1.1 o.2.1.2, rd, hc]
    by_cases ci : cnt ≤ i
    · rw [if_pos ci]
      have ei : i = cnt := Int32.le_antisymm i1 ci
      subst ei
      exact ⟨τ, rfl, S, h⟩
    · have ilt : i < cnt := Int32.not_le.mp ci
      have ok1 : okr ρ (r + i) 1 (sI (eσ e) 261 g) := okr_i ok hR i0 ilt
      obtain ⟨s1, S1, ⟨s2, s3⟩, s4⟩ := set_1 (N := N) (t := 0) (v := 0) S z ok1 (by decide) (by decide)
      have nn := i_nn i0 ilt ok.2.2.2.1
      rw [if_neg ci, gd_in (by decide) o.1.1 o.1.2, rd, hr, s1, bd_so, lt]
      have il := tI_lt.mp ilt
      refine ih (i + 1) nn.1 nn.2.1 (by omega) _ S1 (fun k k0 k1 => ?_)
      by_cases ck : k = i
      · subst ck; exact ⟨s2, s3⟩
      · have kk := k_lt k0 k1 ck i0 ilt ok.1 ok.2.1 ok.2.2.2.1 ok.2.2.2.2.1 hR
        rw [(s4 _ kk.2.1 kk.2.2.1 kk.2.2.2).1, (s4 _ kk.2.1 kk.2.2.1 kk.2.2.2).2]
        exact h k k0 kk.1
theorem nn_add {r k : Int32} (r0 : 0 ≤ r) (r1 : r ≤ 2500) (k0 : 0 ≤ k) (k1 : k ≤ 2500) : 0 ≤ r + k := by lia
/-- NIL, alone, on free registers -/
theorem r_nilx {e : EV} {w : WD} {xf : Int32 → List Int32} {c d : Int32} {rest : PL2} {f : Int32} {fl : List Int32} {ρ : List Int32} {g p q F n : Int32} {σ μ : mS} (Z : ZRok e) (BN : 1000000 ≤ eN e) {M rk : Nat} (G : GK e M F n rk) (A : PT e w xf c d rest f fl ρ (-1) g p q F n σ μ) (z : eZ e rk g p q ρ (-1)) (ho : opx e p 1) (ok : okr ρ (nx e (p + 1)) (nx e (p + 2)) (sI (eσ e) 261 g)) (L : lo e rk g (p + 3) q ρ (-1)) : Good e (M + 3000) σ μ := by
  have hx := PT_x A ho (fun s => rfl)
  have S := (PT_sx A 3).1
  have b : (nx e (p + 2)).toInt ≤ 2500 := tI_le.mp ok.2.2.2.1
  obtain ⟨υ, u1, u2, _⟩ := nil_lp (σ := σ) (N := eN e) (zk_of Z z) ho.1 rfl rfl ok (eN e) 0 (by decide) ok.2.2.1 (by rw [show (0 : Int32).toInt = 0 from rfl]; omega) _ S (fun k k0 k1 => absurd (Int32.lt_of_le_of_lt k0 k1) (Int32.lt_irrefl))
  exact Good_x A (by rw [hx, sf_1, u1]) (GK_lo G u2.1 L)
/-- nils, one by one, on the reference's side -/
theorem nil_acts {e : EV} {w : WD} {xf : Int32 → List Int32} {c d : Int32} {rest : PL2} {f : Int32} {fl : List Int32} {ρ : List Int32} {g p q F n : Int32} {σ μ : mS} {M rk : Nat} (G : GK e M F n rk) {r cnt : Int32} {q0 : Int32} (hl : (ρ ++ rng r cnt).length ≤ 2000) (c0 : 0 ≤ cnt) (c1 : cnt ≤ 2500) (r0 : 0 ≤ r) (h : ∀ k, 0 ≤ k → k < cnt → 0 ≤ r + k ∧ xt σ f (r + k) = 0 ∧ xv σ f (r + k) = 0) (ha : ∀ k, 0 ≤ k → k < cnt → acm e (q0 + k) 0) (L : lo e rk g p (q0 + cnt) (ρ ++ rng r cnt) (-1)) (j : Nat) (i : Int32) (i0 : 0 ≤ i) (i1 : i ≤ cnt) (hj : (cnt.toInt - i.toInt).toNat = j) : ∀ τm, PT e w xf c d rest f fl (ρ ++ rng r i) (-1) g p (q0 + i) F n σ τm → Good e (M + j) σ τm := by
  induction j generalizing i with
  | zero =>
    intro τm A
    have ei : i = cnt := by rw [tI_eq]; rw [tI_le] at i1; omega
    subst ei
    exact GK_lo G A L
  | succ j ih =>
    intro τm A
    have ilt : i < cnt := by rw [tI_lt]; omega
    have nn := i_nn i0 ilt c1
    have hk := h i i0 ilt
    have ll : (ρ ++ rng r i).length ≤ 2000 := by
      rw [List.length_append, rng_len] at hl ⊢
      have e1 := tI_cl cnt
      have e2 := tI_cl i
      rw [tI_lt] at ilt
      rw [tI_le] at i0
      have z0 : (0 : Int32).toInt = 0 := rfl
      omega
    have vv : RV w σ f (r + i) 0 0 := .inr (.inl ⟨hk.1, .inl ⟨hk.2.1, rfl, hk.2.2, rfl⟩⟩)
    have A1 := ST_m A
    obtain ⟨p1, p2⟩ := push_m1 (N := eN e) A1 ll vv
    have i31 : i < 2147483647 := Int32.lt_of_lt_of_le ilt (Int32.le_trans c1 (by decide))
    have es : ρ ++ rng r i ++ [r + i] = ρ ++ rng r (i + 1) := by rw [rng_s i0 i31, List.append_assoc]
    rw [es, show q0 + i + 1 = q0 + (i + 1) from by lia] at p2
    refine good_m (PT_0 A).2 ?_ (ih (i + 1) nn.1 nn.2.1 (by omega) _ p2)
    rw [act_f A (ha i i0 ilt), af_0]
    exact (bd_me (fun z => rfl)).trans p1
/-- NIL, with as many acts -/
theorem r_nil {e : EV} {w : WD} {xf : Int32 → List Int32} {c d : Int32} {rest : PL2} {f : Int32} {fl : List Int32} {ρ : List Int32} {g p q F n : Int32} {σ μ : mS} (Z : ZRok e) (BN : 1000000 ≤ eN e) {M rk : Nat} (G : GK e M F n rk) (A : PT e w xf c d rest f fl ρ (-1) g p q F n σ μ) (z : eZ e rk g p q ρ (-1)) (ho : opx e p 1) (ok : okr ρ (nx e (p + 1)) (nx e (p + 2)) (sI (eσ e) 261 g)) (ha : ∀ k, 0 ≤ k → k < nx e (p + 2) → acm e (q + k) 0) (L : lo e rk g (p + 3) (q + nx e (p + 2)) (ρ ++ rng (nx e (p + 1)) (nx e (p + 2))) (-1)) : Good e (M + 3000) σ μ := by
  have hx := PT_x A ho (fun s => rfl)
  have S := (PT_sx A 3).1
  have b : (nx e (p + 2)).toInt ≤ 2500 := tI_le.mp ok.2.2.2.1
  have b0 : 0 ≤ (nx e (p + 2)).toInt := tI_le.mp ok.2.2.1
  obtain ⟨υ, u1, u2, u3⟩ := nil_lp (σ := σ) (N := eN e) (zk_of Z z) ho.1 rfl rfl ok (eN e) 0 (by decide) ok.2.2.1 (by rw [show (0 : Int32).toInt = 0 from rfl]; omega) _ S (fun k k0 k1 => absurd (Int32.lt_of_le_of_lt k0 k1) (Int32.lt_irrefl))
  obtain ⟨r, hr, zr⟩ := L
  have hl := (Z _ _ _ _ _ _ zr).1
  have A1 := nil_acts (μ := μ) (q := q) (j := ((nx e (p + 2)).toInt).toNat) G hl ok.2.2.1 ok.2.2.2.1 ok.1 (fun k k0 k1 => ⟨nn_add ok.1 ok.2.1 k0 (Int32.le_trans (Int32.le_of_lt k1) ok.2.2.2.1), u3 k k0 k1⟩) ha ⟨r, hr, zr⟩ 0 (by decide) ok.2.2.1 (by rw [show (0 : Int32).toInt = 0 from rfl]; omega) μ (by rw [rng_0, List.append_nil, show q + 0 = q from by lia]; exact u2.1)
  exact Good_mono (good_x (PT_0 A).1 (by rw [hx, sf_1, u1]) A1) (by omega)
