/-! LAYER 2: step rules: boxes are written, made; what was captured -/
theorem i_rho {ρ : List Int32} {j : Nat} (hj : j < ρ.length) : ρ.getD j 0 ∈ ρ := by
  rw [List.getD_eq_getElem?_getD, List.getElem?_eq_getElem hj]
  exact List.getElem_mem hj
theorem RV_cg {w : WD} {σ τ : mS} {f x tm : Int32} {vm : Int64} (h : RV w σ f x tm vm) (hr : 0 ≤ dc x → xt τ f (dc x) = xt σ f (dc x) ∧ xv τ f (dc x) = xv σ f (dc x)) : RV w τ f x tm vm := by
  have := RG_cg (pt' := fun _ => tm) (pv' := fun _ => vm) ((RG_one (B := 0) (pt := fun _ => tm) (pv := fun _ => vm)).mpr h) wle_rfl (τ := τ) (fun y hy y0 => by rw [List.mem_singleton] at hy; rw [hy] at y0 ⊢; exact hr y0) (fun _ _ => ⟨rfl, rfl⟩)
  exact (RG_one (B := 0) (pt := fun _ => tm) (pv := fun _ => vm)).mp this
/-- the register of a box -/
theorem zk_box {e : EV} {g : Int32} {ρ : List Int32} (z : zk e g ρ) {j : Nat} (hj : j < ρ.length) {r : Int32} (r0 : 0 ≤ r) (r1 : r ≤ 2500) (hb : ρ.getD j 0 = -2 - r) : r < sI (eσ e) 261 g := by
  have := z.2 _ (i_rho hj)
  rw [hb, dc_b r0 (by lia)] at this
  exact this
theorem zk_reg {e : EV} {g : Int32} {ρ : List Int32} (z : zk e g ρ) {x : Int32} (hx : x ∈ ρ) (x0 : 0 ≤ x) : x < sI (eσ e) 261 g := by
  have := z.2 _ hx
  rw [dc_p x0] at this
  exact this
/-- a value goes into a box, on the system's side -/
theorem inB_x {N : Nat} {σ : mS} {f r a : Int32} (h1 : xx6_tag N σ r = some (xt σ f r, σ)) (h2 : ∀ υ, sF υ 410 = sF σ 410 → xx6_value N υ r = some (υ.2.2.2 365 (sF σ 410 + r).toNatClampNeg, υ)) (hb : sF σ 410 = sI σ 347 f) (a0 : 0 ≤ a) (a1 : a < 12000) (t0 : 0 ≤ xt σ f r) (t1 : xt σ f r ≤ 8) : xx6_inBox N σ a r = some (bW σ 233 234 a (xt σ f r) (xv σ f r)) := by
  have h2' := h2 (md_ai σ 233 a.toNatClampNeg (xt σ f r)) rfl
  rw [xx6_inBox, h1, bd_so, gd_in (by decide) a0 a1, nar_tag t0 t1, lt, h2', bd_so, gd_in (by decide) a0 a1, lt]
  rw [hb]
  rfl
theorem inB_S {e : EV} {w : WD} {xf : Int32 → List Int32} {c d : Int32} {rest : PL2} {f : Int32} {fl : List Int32} {ρ : List Int32} {m : Int32} {g p q F n : Int32} {σ μ : mS} (S : ST e w xf c d rest f fl ρ m g p q F n σ μ) {r a : Int32} (r0 : 0 ≤ r) (r1 : r < sI (eσ e) 261 g) (a0 : 0 ≤ a) (a1 : a < 12000) (t0 : 0 ≤ xt σ f r) (t1 : xt σ f r ≤ 8) {N : Nat} : xx6_inBox N σ a r = some (bW σ 233 234 a (xt σ f r) (xv σ f r)) := by
  have b := MR0_f S.1.1.1
  rw [PT_R S.1] at b
  have I := rg_i2 b.2.2.1.1 b.2.2.1.2.2.1 b.2.2.1.2.1 b.2.2.1.2.2.2 r0 (Int32.lt_of_lt_of_le r1 b.2.1.2.2)
  refine inB_x (rd_r S r0 r1).1 (fun υ hυ => ?_) S.2.1 a0 a1 t0 t1
  have e410 : sF σ 410 = sI σ 347 f := S.2.1
  have e410' : υ.1 410 = sI σ 347 f := hυ.trans e410
  rw [xx6_value, e410', gd_in (by decide) I.1 I.2, e410]
/-- on the reference's side -/
theorem inB_m {N : Nat} {μ : mS} {b i : Int32} (i0 : 0 ≤ i) (i1 : i < 500000) (b0 : 0 ≤ b) (b1 : b < 12000) (t0 : 0 ≤ sI μ 141 i) (t1 : sI μ 141 i ≤ 8) : mm_inBox N μ b i = some (bW μ 53 54 b (sI μ 141 i) (sJ μ 142 i)) := by
  have nb : vp_nar .byte (μ.2.2.1 141 i.toNatClampNeg) = sI μ 141 i := tag_b t0 t1
  rw [mm_inBox, gd_in (by decide) i0 i1, gd_in (by decide) b0 b1, nb, lt, gd_in (by decide) i0 i1, gd_in (by decide) b0 b1, lt]
  rfl
/-- SET_BOX, SET_LOCAL of a box -/
theorem r_setb {e : EV} {w : WD} {xf : Int32 → List Int32} {c d : Int32} {rest : PL2} {f : Int32} {fl : List Int32} {ρ0 : List Int32} {x : Int32} {g p q F n : Int32} {σ μ : mS} (Z : ZRok e) {M rk : Nat} (G : GK e M F n rk) (A : PT e w xf c d rest f fl (ρ0 ++ [x]) (-1) g p q F n σ μ) (z : eZ e rk g p q (ρ0 ++ [x]) (-1)) (ho : opx e p 7) (ha : acm e q 70) {r : Int32} (r0 : 0 ≤ r) (r1 : r ≤ 2500) (hr : nx e (p + 1) = r) (hr2 : nx e (p + 2) = x) (x0 : 0 ≤ x) {j : Nat} (hj : j < ρ0.length) (hb : ρ0.getD j 0 = -2 - r) (hv : sI (eμ e) 71 q = Int32.ofNat j) (L : lo e rk g (p + 3) (q + 1) ρ0 (-1)) : Good e (M + 3000) σ μ := by
  have hx := PT_x A ho (fun s => rfl)
  have S := PT_s A 3
  have o := ops_1 ho.1.1 ho.1.2
  have e3 : mff (actP μ (n - 1) q) (n - 1) 3 = mff μ (n - 1) 3 := mf_I actP_fr rfl
  have hm := act_f A ha
  rw [af_70, hv, ← e3] at hm
  have h256 := fun i => xP_256 S.1 i
  obtain ⟨k1, xa, xl⟩ := rare_k (N := eN e) (k := 7) ho.1.1 ho.1.2 h256
  rw [sf_7, rare_s, k1, rf_7, xa, xl, hr] at hx
  clear e3 k1
  generalize xP σ f p 3 = τ at hx S h256
  generalize actP μ (n - 1) q = τm at hm S
  have zk' := zk_of Z z
  obtain ⟨v, t2, t3, S2⟩ := top_S S zk' x0
  have zk0 := zk_l zk'
  obtain ⟨h1, h2, h3, h4, h5⟩ := PT_at S2.1 zk0.1
  have bl := (h5 j (by omega) 0 (by omega)).1
  have rv := h1 j hj
  rw [hb] at rv
  obtain ⟨a, b, hab, x1, x2, m1, m2⟩ := RV_box rv r0 r1
  have rR := zk_box zk0 hj r0 r1 hb
  have xR' := zk_reg zk' mem_l x0
  have t8 := VV_t8 v
  obtain ⟨a01, b01, S3⟩ := inBox_S S2 hab v
  have hk := inB_S (N := eN e) S x0 xR' a01.1 a01.2 t8.1.1 t8.1.2
  have hk' := inB_m (N := eN e) (μ := md_pi τm 143 (sF τm 143 - 1)) (b := b) t2.1 t2.2 b01.1 b01.2 t8.2.1 t8.2.2
  refine Good_2 A (hx.trans ?_) (hm.trans ?_) (GK_lo G S3.1 L)
  · rw [(rd_r S r0 rR).2, bd_so, gd_tt, gd_in (by decide) o.2.1.1 o.2.1.2, h256, hr2, x2, i32_64, hk, bd_so]; rfl
  · have m2' : (md_pi τm 143 (τm.1 143 - 1)).2.2.2 142 (mff τm (n - 1) 3 + Int32.ofNat j).toNatClampNeg = Int32.toInt64 b := m2
    have bl' : 0 ≤ mff τm (n - 1) 3 + Int32.ofNat j ∧ mff τm (n - 1) 3 + Int32.ofNat j < 500000 := bl
    rw [lt, gd_in (by decide) bl'.1 bl'.2, m2', i32_64, act_b]
    exact hk'
/-- MOVE_LOCAL into a box: SET_BOX, the value's place is gone -/
theorem r_movb {e : EV} {w : WD} {xf : Int32 → List Int32} {c d : Int32} {rest : PL2} {f : Int32} {fl : List Int32} {ρ : List Int32} {g p q F n : Int32} {σ μ : mS} (Z : ZRok e) {M rk : Nat} (G : GK e M F n rk) (A : PT e w xf c d rest f fl ρ (-1) g p q F n σ μ) (z : eZ e rk g p q ρ (-1)) (ho : opx e p 7) (ha : acm e q 72) {r x : Int32} (r0 : 0 ≤ r) (r1 : r ≤ 2500) (hr : nx e (p + 1) = r) (hr2 : nx e (p + 2) = x) (x0 : 0 ≤ x) {i j : Nat} (hj : j < ρ.length) (hi : i < ρ.length) (hb : ρ.getD j 0 = -2 - r) (hxi : ρ.getD i 0 = x) (hv : sI (eμ e) 71 q = Int32.ofNat j) (hw : sI (eμ e) 73 q = Int32.ofNat i) (L : lo e rk g (p + 3) (q + 1) (ρ.set i (-1)) (-1)) : Good e (M + 3000) σ μ := by
  have hx := PT_x A ho (fun s => rfl)
  have S := PT_s A 3
  have o := ops_1 ho.1.1 ho.1.2
  have e3 : mff (actP μ (n - 1) q) (n - 1) 3 = mff μ (n - 1) 3 := mf_I actP_fr rfl
  have hm := act_f A ha
  have iq := (act_k A ha).1
  have k73 := (aP_70 S.1 q).2
  rw [hw] at k73
  rw [af_72, hv, ← e3, iq, k73] at hm
  have h256 := fun i => xP_256 S.1 i
  obtain ⟨k1, xa, xl⟩ := rare_k (N := eN e) (k := 7) ho.1.1 ho.1.2 h256
  rw [sf_7, rare_s, k1, rf_7, xa, xl, hr] at hx
  clear e3 k1
  generalize xP σ f p 3 = τ at hx S h256
  generalize actP μ (n - 1) q = τm at hm S k73
  have zk0 := zk_of Z z
  obtain ⟨h1, h2, h3, h4, h5⟩ := PT_at S.1 zk0.1
  have bl := (h5 j (by omega) 0 (by omega)).1
  have bi := (h5 i (by omega) 0 (by omega)).1
  have rv := h1 j hj
  rw [hb] at rv
  have rvi := h1 i hi
  rw [hxi] at rvi
  have v := RV_V rvi x0
  obtain ⟨a, b, hab, x1, x2, m1, m2⟩ := RV_box rv r0 r1
  have rR := zk_box zk0 hj r0 r1 hb
  have xR' := zk_reg zk0 (by have := i_rho hi; rw [hxi] at this; exact this) x0
  have t8 := VV_t8 v
  obtain ⟨a01, b01, S3⟩ := inBox_S S hab v
  have hk := inB_S (N := eN e) S x0 xR' a01.1 a01.2 t8.1.1 t8.1.2
  have hk' := inB_m (N := eN e) (μ := τm) (b := b) bi.1 bi.2 b01.1 b01.2 t8.2.1 t8.2.2
  have e3' : ∀ t v', mff (bW τm 53 54 b t v') (n - 1) 3 = mff τm (n - 1) 3 := fun _ _ => rfl
  obtain ⟨g1, g2⟩ := gone_m1 (N := eN e) (j := i) S3.1 zk0.1 hi
  rw [e3'] at g1 g2
  refine Good_2 A (hx.trans ?_) (hm.trans ?_) (GK_lo G g2 L)
  · rw [(rd_r S r0 rR).2, bd_so, gd_tt, gd_in (by decide) o.2.1.1 o.2.1.2, h256, hr2, x2, i32_64, hk, bd_so]; rfl
  · have m2' : τm.2.2.2 142 (mff τm (n - 1) 3 + Int32.ofNat j).toNatClampNeg = Int32.toInt64 b := m2
    have k73' : ∀ t v', (bW τm 53 54 b t v').2.2.1 73 q.toNatClampNeg = Int32.ofNat i := fun _ _ => k73
    rw [gd_in (by decide) bl.1 bl.2, gd_tt, m2', i32_64, hk', bd_so, gd_tt, k73', g1]
    rfl
/-- NEW_BOX: a local goes into a box -/
theorem r_newb {e : EV} {w : WD} {xf : Int32 → List Int32} {c d : Int32} {rest : PL2} {f : Int32} {fl : List Int32} {ρ : List Int32} {g p q F n : Int32} {σ μ : mS} {M rk : Nat} (C : CXT e M F n rk) (A : PT e w xf c d rest f fl ρ (-1) g p q F n σ μ) (z : eZ e rk g p q ρ (-1)) (ho : opx e p 8) (ha : acm e q 71) (ln : lin e p q) {r : Int32} (r0 : 0 ≤ r) (hr : nx e (p + 1) = r) {j : Nat} (hj : j < ρ.length) (hb : ρ.getD j 0 = r) (hu : ∀ i, i < ρ.length → i ≠ j → dc (ρ.getD i 0) ≠ r) (hv : sI (eμ e) 71 q = Int32.ofNat j) (L : lo e rk g (p + 2) (q + 1) (ρ.set j (-2 - r)) (-1)) : Good e (M + 3000) σ μ := by
  obtain ⟨E, _, Z, _, _, G, _, _⟩ := id C
  have hx := PT_x A ho (fun s => rfl)
  have S := PT_s A 2
  have LL := PT_LE (k := 0) A ho ln 2
  have o := ops_1 ho.1.1 ho.1.2
  have e3 : mff (actP μ (n - 1) q) (n - 1) 3 = mff μ (n - 1) 3 := mf_I actP_fr rfl
  have hm := act_f A ha
  rw [af_71, hv, ← e3] at hm
  have h256 := fun i => xP_256 S.1 i
  obtain ⟨k1, xa, xl⟩ := rare_k (N := eN e) (k := 8) ho.1.1 ho.1.2 h256
  rw [sf_8, rare_s, k1, rf_8, hr] at hx
  clear e3 k1
  generalize xP σ f p 2 = τ at hx S h256 LL
  generalize actP μ (n - 1) q = τm at hm S LL
  have zk0 := zk_of Z z
  obtain ⟨h1, h2, h3, h4, h5⟩ := PT_at S.1 zk0.1
  have bl := (h5 j (by omega) 0 (by omega)).1
  have rv := h1 j hj
  rw [hb] at rv
  have v := RV_V rv r0
  have rR := zk_reg zk0 (by have := i_rho hj; rw [hb] at this; exact this) r0
  have t8 := VV_t8 v
  have m1 : τm.2.2.1 141 (mff τm (n - 1) 3 + Int32.ofNat j).toNatClampNeg = sI τm 141 (mff τm (n - 1) 3 + Int32.ofNat j) := rfl
  have m2 : τm.2.2.2 142 (mff τm (n - 1) 3 + Int32.ofNat j).toNatClampNeg = sJ τm 142 (mff τm (n - 1) 3 + Int32.ofNat j) := rfl
  rw [(rd_r S r0 rR).1, bd_so, (rd_r S r0 rR).2, bd_so] at hx
  rw [gd_in (by decide) bl.1 bl.2, gd_in (by decide) bl.1 bl.2, m1, m2] at hm
  rcases box_h (N := eN e) S.1.1.1.1.1.1 v with ⟨b1, b2⟩ | ⟨a, b, υ, υm, b1, b2, R, a0, b0, fr, frm⟩
  · refine good_UO C A hx hm (room_UO (PT_UK S.1 LL) (h := fun z => z) (by rw [b1]; rfl) (fun μ' hb => ⟨μ', ?_, mf_rfl⟩)) S.1.2.2.2.2.1 S.1.2.2.2.2.2
    rw [b2, bd_bd, hb, bd_so, bd_so, if_pos (show (-1 : Int32) < 0 from by decide)]; rfl
  · have bx : ∀ k, k < 194 ∨ 237 < k → bXk k = false := fun k hk => by
      simp only [bXk, List.contains_cons, List.contains_nil, Bool.or_eq_false_iff, beq_eq_false_iff_ne]
      (repeat' (first | exact trivial | omega | apply And.intro))
    have bm : ∀ k, k < 16 ∨ 57 < k → bMk k = false := fun k hk => by
      simp only [bMk, List.contains_cons, List.contains_nil, Bool.or_eq_false_iff, beq_eq_false_iff_ne]
      (repeat' (first | exact trivial | omega | apply And.intro))
    have S2 := ST_hp S R wAddB_le rfl rfl rfl ⟨fun i => mf_I fr rfl, fun i => mf_I fr rfl, fun a b _ => mf_I fr rfl⟩ fr frm bx bm (fun k _ => by rw [frm.2.2.1 44 rfl])
    have ir := (set_x (N := eN e) (t := 8) (v := Int32.toInt64 a) S2 r0 (by have b := MR0_f S2.1.1.1; rw [PT_R S2.1] at b; have := b.2.1.2.1; lia) (by have b := MR0_f S2.1.1.1; rw [PT_R S2.1] at b; have := b.2.1.2.1; lia) (by decide) (by decide))
    obtain ⟨ir1, ir2, _, _⟩ := ir
    have e3' : mff υm (n - 1) 3 = mff τm (n - 1) 3 := mf_I frm rfl
    obtain ⟨i1, i2, i3, i4, i5⟩ := PT_at S2.1 zk0.1
    rw [e3'] at i1 i2 i5
    have bb := (box_V R (a := a) (b := b) List.mem_cons_self)
    have I := MR0_f S2.1.1.1
    rw [PT_R S2.1] at I
    have Ig := rg_in (r := r) I.2.2.1.1 I.2.2.1.2.2.1 I.2.2.1.2.1 I.2.2.1.2.2.2 r0 (by have := I.2.1.2.1; lia) (by have := I.2.1.2.1; lia) I.2.1.2.2
    have e347 : ∀ t v', sI (xS υ (sI υ 347 f + r) t v') 347 f = sI υ 347 f := fun _ _ => rfl
    have rd : ∀ s, 0 ≤ s → s ≤ 2600 → s ≠ r → xt (xS υ (sI υ 347 f + r) 8 (Int32.toInt64 a)) f s = xt υ f s ∧ xv (xS υ (sI υ 347 f + r) 8 (Int32.toInt64 a)) f s = xv υ f s := fun s s0 s1 ne => by
      have Q := rg_ne (r := r) (s := s) I.2.2.1.1 I.2.2.1.2.1 r0 (by have := I.2.1.2.1; lia) s0 (Int32.le_trans s1 (by decide))
      simp only [xt, xv]
      rw [e347, xS_I ir1.1 Q.2, xS_J ir1.1 Q.2, if_neg (fun q => ne (Q.1.mp q)), if_neg (fun q => ne (Q.1.mp q))]
      exact ⟨rfl, rfl⟩
    have bj := h5 j (by omega) 0 (by omega)
    refine Good_2 A (hx.trans ?_) (hm.trans ?_) (GK_lo (σ := xS υ (sI υ 347 f + r) 8 (Int32.toInt64 a)) (μ := mW υm (mff τm (n - 1) 3 + Int32.ofNat j) 7 (Int32.toInt64 b)) G (PT_mk S2.1 (xS_tc rfl ir1.1 Ig.2.1 Ig.2.2) (mW_tc bl.1 (by rw [e3']; exact bj.2.2.1)) ((mf_I xS_f rfl).trans S2.1.2.2.1) ((mf_I mW_fr rfl).trans i4) (.inl ⟨rfl, RG_of (fun i hi => ?_), ?_⟩)) L)
    · rw [b1, bx_so, ir2, bd_so]; rfl
    · rw [b2, bd_so, if_neg (by lia), gd_in (by decide) bl.1 bl.2, lt, gd_in (by decide) bl.1 bl.2, lt]
      rfl
    · rw [List.length_set] at hi
      have bi := h5 i (by omega) j (by omega)
      have e3'' : mff (mW υm (mff τm (n - 1) 3 + Int32.ofNat j) 7 (Int32.toInt64 b)) (n - 1) 3 = mff τm (n - 1) 3 := e3'
      rw [e3'', mW_I bl.1 bi.1.1, mW_J bl.1 bi.1.1, set_at hi]
      by_cases c : i = j
      · rw [if_pos (bi.2.1.mpr c), if_pos (bi.2.1.mpr c), if_pos c]
        refine .inr (.inr (.inl ⟨by lia, ?_, rfl, a, b, ?_, rfl, List.mem_cons_self, by have := I.2.1.2.1; lia⟩))
        · rw [dc_b r0 (by have := I.2.1.2.1; lia)]
          simp only [xt]
          rw [e347, xS_I ir1.1 ir1.1, if_pos rfl]
        · rw [dc_b r0 (by have := I.2.1.2.1; lia)]
          simp only [xv]
          rw [e347, xS_J ir1.1 ir1.1, if_pos rfl]
      · rw [if_neg (fun q => c (bi.2.1.mp q)), if_neg (fun q => c (bi.2.1.mp q)), if_neg c]
        have := i1 i hi
        have hd := hu i hi c
        have dm := zk0.2 _ (i_rho hi)
        exact RV_cg this (fun d0 => rd _ d0 (by have := I.2.1.2.1; lia) hd)
    · have e3'' : mff (mW υm (mff τm (n - 1) 3 + Int32.ofNat j) 7 (Int32.toInt64 b)) (n - 1) 3 = mff τm (n - 1) 3 := e3'
      rw [e3'', List.length_set]
      exact i2
