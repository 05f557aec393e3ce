/-! LAYER 2: step rules: signs between two values -/
theorem tx_15 : xtx 15 = mtx 20 := by decide +kernel
theorem tx_16 : xtx 16 = mtx 21 := by decide +kernel
theorem tx_17 : xtx 17 = mtx 19 := by decide +kernel
def sgF (N : Nat) (σ : mS) (a1 x11 x12 x13 x14 : Int32) : Option (Except (Nat × mS) (mS)) := (if (a1 : Int32) = ((51 : Int32) : Int32) then bx (xx6_same N σ (x11) (x12) (x13) (x14)) (fun z23 => xx6_signs_b269 N z23) else (if (a1 : Int32) = ((50 : Int32) : Int32) then bx (xx6_join N σ (x11) (x12) (x13) (x14)) (fun z22 => xx6_signs_b269 N z22) else (if (a1 : Int32) < ((52 : Int32) : Int32) then bd (xx6_tag N σ (x12)) (fun z15 => (if (z15.1 : Int32) = ((3 : Int32) : Int32) then bd (xx6_tag N z15.2 (x13)) (fun z16 => (if (z16.1 : Int32) = ((3 : Int32) : Int32) then bd (xx6_value N z16.2 (x12)) (fun z17 => bd (xx6_value N z17.2 (x13)) (fun z18 => bx (xx6_reckon N z18.2 (a1) (z17.1) (z18.1)) (fun z19 => bd (xx6_set N z19.2 (x11) ((3 : Int32)) (z19.1)) (fun z20 => xx6_signs_b269 N z20)))) else xx6_signs_b160 N (a1) (x11) (x12) (x13) (x14) z16.2)) else xx6_signs_b160 N (a1) (x11) (x12) (x13) (x14) z15.2)) else bx (xx6_compare N σ (a1) (x11) (x12) (x13) (x14)) (fun z21 => xx6_signs_b269 N z21))))
theorem sf_sg {N : Nat} {x7 op : Int32} {σ : mS} (h : 40 ≤ op) : stepF N op x7 σ = bx (xx6_signs N σ op 256 x7) (fun z55 => some (Except.ok z55)) := by
  rw [stepF, if_neg (Int32.not_lt.mpr h)]
theorem sgn_x {e : EV} {N : Nat} {τ : mS} {p op : Int32} (h54 : op < 54) (hp : 0 ≤ p ∧ p < 339900) (h256 : ∀ i : Int32, τ.2.2.1 256 i.toNatClampNeg = nx e i) : xx6_signs N τ op 256 p = sgF N τ op (nx e (p + 1)) (nx e (p + 2)) (nx e (p + 3)) (nx e (p + 4)) := by
  have o := ops_1 hp.1 hp.2
  have xa : x_aB 3 256 = true := rfl
  have xl : x_ln 256 = 340000 := rfl
  rw [xx6_signs, xa, xl, gd_tt, gd_in (by decide) o.1.1 o.1.2, h256 (p + 1), lt, gd_tt, gd_in (by decide) o.2.1.1 o.2.1.2, h256 (p + 2), lt, if_pos h54, gd_tt, gd_in (by decide) o.2.2.1.1 o.2.2.1.2, h256 (p + 3), lt, gd_tt, gd_in (by decide) o.2.2.2.1 o.2.2.2.2, h256 (p + 4), lt]
  rfl
theorem sgo_x {e : EV} {N : Nat} {τ : mS} {p op : Int32} (h54 : ¬ op < 54) (hp : 0 ≤ p ∧ p < 339900) (h256 : ∀ i : Int32, τ.2.2.1 256 i.toNatClampNeg = nx e i) : xx6_signs N τ op 256 p = xx6_one N τ op (nx e (p + 1)) (nx e (p + 2)) (nx e (p + 3)) := by
  have o := ops_1 hp.1 hp.2
  have xa : x_aB 3 256 = true := rfl
  have xl : x_ln 256 = 340000 := rfl
  rw [xx6_signs, xa, xl, gd_tt, gd_in (by decide) o.1.1 o.1.2, h256 (p + 1), lt, gd_tt, gd_in (by decide) o.2.1.1 o.2.1.2, h256 (p + 2), lt, if_neg h54, gd_tt, gd_in (by decide) o.2.2.1.1 o.2.2.1.2, h256 (p + 3)]
  exact bx_me (fun z => rfl)
theorem sg269 {N : Nat} {o : Option (Except (Nat × mS) mS)} : bx o (fun z => xx6_signs_b269 N z) = o := bx_me (fun z => rfl)
theorem kk_1 {o : Option mS} {K : Int32 × mS → Option mS} (h : ∀ z, K (1, z) = some z) : bd (bd o (fun z6 => gd (zB 1) (some ((1, z6) : Int32 × mS)))) K = o := by
  rw [bd_bd]
  refine bd_me (fun z => ?_)
  rw [gd_z1, bd_so]; exact h z
theorem arw {op s : Int32} {k : Nat} (h : arp op s k) : (∀ (N : Nat) (σ : mS), xx0_width N σ op = some (5, σ)) ∧ (40 ≤ op ∧ op < 54 ∧ op < 52 ∧ op ≠ 51 ∧ op ≠ 50) ∧ k < 21 ∧ 11 + op - 40 = Int32.ofNat k ∧ (∀ (N : Nat) (μ : mS), mm_handlerName N μ s = some (sF μ (hnm.getD k 0), μ)) ∧ ((op < 45 ∧ ∀ (N : Nat) (μ : mS), mm_isBits N μ s = some (0, μ)) ∨ (¬ op < 45 ∧ ∀ (N : Nat) (μ : mS), mm_isBits N μ s = some (1, μ))) := by
  rcases h with ⟨rfl, rfl, rfl⟩ | ⟨rfl, rfl, rfl⟩ | ⟨rfl, rfl, rfl⟩ | ⟨rfl, rfl, rfl⟩ | ⟨rfl, rfl, rfl⟩ | ⟨rfl, rfl, rfl⟩ | ⟨rfl, rfl, rfl⟩ | ⟨rfl, rfl, rfl⟩ | ⟨rfl, rfl, rfl⟩ | ⟨rfl, rfl, rfl⟩
  · exact ⟨fun _ _ => rfl, ⟨by decide, by decide, by decide, by decide, by decide⟩, by decide, by decide, fun _ _ => rfl, .inl ⟨by decide, fun _ _ => rfl⟩⟩
  · exact ⟨fun _ _ => rfl, ⟨by decide, by decide, by decide, by decide, by decide⟩, by decide, by decide, fun _ _ => rfl, .inl ⟨by decide, fun _ _ => rfl⟩⟩
  · exact ⟨fun _ _ => rfl, ⟨by decide, by decide, by decide, by decide, by decide⟩, by decide, by decide, fun _ _ => rfl, .inl ⟨by decide, fun _ _ => rfl⟩⟩
  · exact ⟨fun _ _ => rfl, ⟨by decide, by decide, by decide, by decide, by decide⟩, by decide, by decide, fun _ _ => rfl, .inl ⟨by decide, fun _ _ => rfl⟩⟩
  · exact ⟨fun _ _ => rfl, ⟨by decide, by decide, by decide, by decide, by decide⟩, by decide, by decide, fun _ _ => rfl, .inl ⟨by decide, fun _ _ => rfl⟩⟩
  · exact ⟨fun _ _ => rfl, ⟨by decide, by decide, by decide, by decide, by decide⟩, by decide, by decide, fun _ _ => rfl, .inr ⟨by decide, fun _ _ => rfl⟩⟩
  · exact ⟨fun _ _ => rfl, ⟨by decide, by decide, by decide, by decide, by decide⟩, by decide, by decide, fun _ _ => rfl, .inr ⟨by decide, fun _ _ => rfl⟩⟩
  · exact ⟨fun _ _ => rfl, ⟨by decide, by decide, by decide, by decide, by decide⟩, by decide, by decide, fun _ _ => rfl, .inr ⟨by decide, fun _ _ => rfl⟩⟩
  · exact ⟨fun _ _ => rfl, ⟨by decide, by decide, by decide, by decide, by decide⟩, by decide, by decide, fun _ _ => rfl, .inr ⟨by decide, fun _ _ => rfl⟩⟩
  · exact ⟨fun _ _ => rfl, ⟨by decide, by decide, by decide, by decide, by decide⟩, by decide, by decide, fun _ _ => rfl, .inr ⟨by decide, fun _ _ => rfl⟩⟩
theorem two_ar {op s : Int32} {k : Nat} (h : arp op s k) (N : Nat) (μ : mS) : mm_two N μ s = gd (inB (μ.1 143 - 2) 500000) (if μ.2.2.1 141 (μ.1 143 - 2).toNatClampNeg = 2 then gd (inB (μ.1 143 - 1) 500000) (if μ.2.2.1 141 (μ.1 143 - 1).toNatClampNeg = 2 then gd (inB (μ.1 143 - 1) 500000) (if lg_cmp (μ.2.2.2 142 (μ.1 143 - 1).toNatClampNeg) 0 = 0 then (if s = 300 then mm_two_242 N μ else (if s = 137 then mm_two_242 N μ else mm_two_250 N s (μ.1 143 - 2) (μ.1 143 - 1) μ)) else mm_two_250 N s (μ.1 143 - 2) (μ.1 143 - 1) μ) else mm_two_283 N s (μ.1 143 - 2) (μ.1 143 - 1) μ) else mm_two_283 N s (μ.1 143 - 2) (μ.1 143 - 1) μ) := by
  rcases h with ⟨rfl, rfl, rfl⟩ | ⟨rfl, rfl, rfl⟩ | ⟨rfl, rfl, rfl⟩ | ⟨rfl, rfl, rfl⟩ | ⟨rfl, rfl, rfl⟩ | ⟨rfl, rfl, rfl⟩ | ⟨rfl, rfl, rfl⟩ | ⟨rfl, rfl, rfl⟩ | ⟨rfl, rfl, rfl⟩ | ⟨rfl, rfl, rfl⟩ <;> rfl
/-- by 0 -/
theorem arr_0 {op s : Int32} {k : Nat} (h : arp op s k) (N : Nat) (σ μ : mS) {x y : Int64} (h0 : y = 0) (hs : s = 300 ∨ s = 137) : xx6_reckon N σ op x y = bx (xx6_fault N σ (3000 + 17)) (fun z4 => some (Except.error (z4.1, z4.2))) := by
  rcases h with ⟨rfl, rfl, rfl⟩ | ⟨rfl, rfl, rfl⟩ | ⟨rfl, rfl, rfl⟩ | ⟨rfl, rfl, rfl⟩ | ⟨rfl, rfl, rfl⟩ | ⟨rfl, rfl, rfl⟩ | ⟨rfl, rfl, rfl⟩ | ⟨rfl, rfl, rfl⟩ | ⟨rfl, rfl, rfl⟩ | ⟨rfl, rfl, rfl⟩
  case inr.inr.inr.inl =>
    have e : xx6_reckon N σ 43 x y = (if lg_cmp y 0 = 0 then bx (xx6_fault N σ (3000 + 17)) (fun z4 => some (Except.error (z4.1, z4.2))) else bd (xj8_floorDiv N σ x y) (fun z3 => xx6_reckon_b103 N z3.1 z3.2)) := rfl
    rw [e, if_pos (lgc_eq.mpr h0)]
  case inr.inr.inr.inr.inl =>
    have e : xx6_reckon N σ 44 x y = (if lg_cmp y 0 = 0 then bx (xx6_fault N σ (3000 + 17)) (fun z4 => some (Except.error (z4.1, z4.2))) else bd (xj8_floorMod N σ x y) (fun z3 => xx6_reckon_b103 N z3.1 z3.2)) := rfl
    rw [e, if_pos (lgc_eq.mpr h0)]
  all_goals exact absurd hs (by decide)
theorem VV_3 {w : WD} {vx vm : Int64} (v : VV w 3 vx 2 vm) : vx = vm := by
  rcases v with ⟨h, _⟩ | ⟨h, _⟩ | ⟨h, _⟩ | ⟨_, _, h⟩ | ⟨h, _⟩ | ⟨h, _⟩ | ⟨h, _⟩ | ⟨h, _⟩ | ⟨h, _⟩
  case inr.inr.inr.inl => exact h
  all_goals exact absurd h (by decide)
theorem UO_2 {α : Type} {e : EV} {w : WD} {xf : Int32 → List Int32} {c d : Int32} {rest : PL2} {σ μ : mS} {o : Option (Except (Nat × mS) (Nat × mS))} {om : Option mS} {k : mS → Option mS} (hk : ∀ z, k z = some z) (H : UO (α := α) e w xf c d rest σ μ (fun z => z) (bx o (fun z => some (Except.error (z.1, z.2)))) om) : UO (α := α) e w xf c d rest σ μ (fun z => z) (bx o (fun z => some (Except.error (z.1, z.2)))) (bd om k) := UO_bd H hk
/-- a number's result -/
theorem num_2 {μ : mS} {N : Nat} {B : Int32} {v : Int64} (B0 : 0 ≤ B) (B2 : B ≤ 480000) : bd (mm_push N (md_pi μ 143 B) 2 v) (fun z7 => mm_two_340 N z7) = mm_push N (md_pi μ 143 B) 2 v := bd_me (fun z => rfl)
/-- + - * // % & | ~ << >> -/
theorem r_arith {e : EV} {w : WD} {xf : Int32 → List Int32} {c d : Int32} {rest : PL2} {f : Int32} {fl : List Int32} {g p q F n : Int32} {σ μ : mS} {M rk : Nat} {ρ0 : List Int32} {x y r live op s : Int32} {k : Nat} (ar : arp op s k) (C : CXT e M F n rk) (hk : rk ≤ 2000000) (A : PT e w xf c d rest f fl (ρ0 ++ [x] ++ [y]) (-1) g p q F n σ μ) (z : eZ e rk g p q (ρ0 ++ [x] ++ [y]) (-1)) (ho : opx e p op) (ha : acm e q 23) (hs : sI (eμ e) 71 q = s) (ln : lin e p q) (h1 : nx e (p + 1) = r) (h2 : nx e (p + 2) = x) (h3 : nx e (p + 3) = y) (h4 : nx e (p + 4) = live) (x0 : 0 ≤ x) (y0 : 0 ≤ y) (ok : okr ρ0 r 1 (sI (eσ e) 261 g)) (V : lvS e g ρ0 live) (L : lo e rk g (p + 5) (q + 1) (ρ0 ++ [r]) (-1)) : Good e (M + 3000) σ μ := by
  obtain ⟨E, hM, Z, _, _, G, _, _⟩ := id C
  obtain ⟨aw, ⟨a40, a54, a52, a51, a50⟩, ak, akn, an, ab⟩ := arw ar
  have hx := PT_x A ho (aw (eN e))
  have S := PT_s A 5
  have LL := PT_LE (k := 0) A ho ln 5
  have hm := act_f A ha
  rw [af_23, act_g A ha, mf_23, act_b, more_b, hs, two_ar ar] at hm
  have h256 := fun i => xP_256 S.1 i
  rw [sf_sg a40, sgn_x a54 ho.1 h256, h1, h2, h3, h4, sgF, if_neg a51, if_neg a50, if_pos a52, bx_me (fun z => rfl)] at hx
  generalize xP σ f p 5 = τ at hx S h256 LL
  generalize actP μ (n - 1) q = τm at hm S LL
  have zk0 := zk_of Z z
  have zk1 : zk e g ρ0 := zk_l (zk_l zk0)
  obtain ⟨B, ⟨t0, t1, t2⟩, ⟨B0, B1, B2⟩, e0, e1, v0', v1'⟩ := top_2 S.1 zk0.1
  have bb := bnd3 B0 B2
  have A2 := PT_take S.1 (j := ρ0.length) (by rw [List.append_assoc, List.length_append]; omega) e0
  rw [List.append_assoc, List.take_left' rfl] at A2
  have S2 : ST e w xf c d rest f fl ρ0 (-1) g (p + 5) (q + 1) F n τ (md_pi τm 143 B) := ⟨A2, S.2⟩
  have vx := RV_V v0' x0
  have vy := RV_V v1' y0
  have xR := zk_reg zk0 (x := x) (by simp) x0
  have yR := zk_reg zk0 (x := y) (by simp) y0
  have tvx := VV_t vx
  have tvy := VV_t vy
  have e141 : ∀ i : Int32, τm.2.2.1 141 i.toNatClampNeg = sI τm 141 i := fun i => rfl
  have e142 : ∀ i : Int32, τm.2.2.2 142 i.toNatClampNeg = sJ τm 142 i := fun i => rfl
  rw [show τm.1 143 = sF τm 143 from rfl, t2, t1, gd_in (by decide) bb.1.1 bb.1.2, e141, gd_in (by decide) bb.2.1.1 bb.2.1.2, e141, gd_in (by decide) bb.2.1.1 bb.2.1.2, e142] at hm
  rw [(rd_r S x0 xR).1, bd_so] at hx
  have hd : (xx6_step (eN e) σ = xx6_signs_b160 (eN e) op r x y live τ) → mm_act (eN e) μ = mm_two_283 (eN e) s B (B + 1) τm → (∃ b, (b = y ∨ b = x) ∧ (if xt τ f x = 3 then y else x) = b) → Good e (M + 3000) σ μ := by
    intro hx hm _
    have ct : ctS (eS e) (sI (eσ e) 261 g) g (p + 5) (q + 1) ρ0 1 r 1 1 0 := .inr (.inr (.inl ⟨rfl, rfl, rfl, ok, lo_S hk L⟩))
    rw [mm_two_283, an, bd_so] at hm
    rw [xx6_signs_b160, akn] at hx
    rcases eh_2 (th := 0) C zk1 S2 LL (LV_S S2 V) B0 B2 x0 xR y0 yR vx vy t0 rfl rfl rfl rfl ak ct with ⟨i1, i2⟩ | ⟨h, τ', ⟨h0, h1'⟩, i1, i2, G2⟩
    · have S3 := ST_gt (c' := 0) (d' := 0) S2
      have UKx := UK_pi S3.1 (show LE τ (mff (gt τm 0 0)) f (n - 1) from LL)
      rw [i1, bd_so, if_pos rfl, (rd_r S x0 xR).1, bd_so] at hx
      rw [i2, bd_so, if_pos rfl] at hm
      have g141 : ∀ i : Int32, (gt τm 0 0).2.2.1 141 i.toNatClampNeg = sI τm 141 i := fun i => rfl
      have flt : ∀ {t tm : Int32} {vv vm : Int64}, VV w t vv tm vm → UO e w xf c d rest τ (gt τm 0 0) (fun z => z) (xx6_signs_b208 (eN e) op t τ) (bd (mm_isBits (eN e) (gt τm 0 0) s) (fun z4 => bd (mm_faultOf (eN e) z4.2 (if z4.1 = 0 then 21 else 20) tm 10) (fun z1 => mm_two_340 (eN e) z1))) := by
        intro t tm vv vm v
        rw [xx6_signs_b208]
        rcases ab with ⟨c1, c2⟩ | ⟨c1, c2⟩
        · rw [if_pos c1, xx6_signs_b226, c2, bd_so, if_pos rfl]
          exact UO_bd (faultT_UO E UKx v (t := 16) (u := 21) (t' := 4) (u' := 10) (by decide) (by decide) tx_16 (by decide +kernel) (by decide) (by decide) tx_4 (by decide +kernel)) (fun z => rfl)
        · rw [if_neg c1, xx6_signs_b226, c2, bd_so, if_neg n10]
          exact UO_bd (faultT_UO E UKx v (t := 15) (u := 20) (t' := 4) (u' := 10) (by decide) (by decide) tx_15 (by decide +kernel) (by decide) (by decide) tx_4 (by decide +kernel)) (fun z => rfl)
      have hFF : sF τ 396 = F := S.1.2.2.2.2.1
      have hnn : sF (gt τm 0 0) 154 = n := S3.1.2.2.2.2.2
      have e314 : ∀ yy : Nat, mm_two_314 (eN e) B (B + 1) yy (gt τm 0 0) = bd (mm_faultOf (eN e) (gt τm 0 0) yy (if xt τ f x = 3 then sI τm 141 (B + 1) else sI τm 141 B) 10) (fun z1 => mm_two_340 (eN e) z1) := by
        intro yy
        rw [mm_two_314, gd_in (by decide) bb.1.1 bb.1.2, g141]
        by_cases c3 : xt τ f x = 3
        · rw [if_pos (tvx.2.1.mp c3), if_pos c3, mm_two_333, gd_in (by decide) bb.2.1.1 bb.2.1.2, g141]
        · rw [if_neg (fun q => c3 (tvx.2.1.mpr q)), if_neg c3, mm_two_333, gd_in (by decide) bb.1.1 bb.1.2, g141]
      have hm' : mm_act (eN e) μ = bd (mm_isBits (eN e) (gt τm 0 0) s) (fun z4 => bd (mm_faultOf (eN e) z4.2 (if z4.1 = 0 then 21 else 20) (if xt τ f x = 3 then sI τm 141 (B + 1) else sI τm 141 B) 10) (fun z1 => mm_two_340 (eN e) z1)) := by
        rw [hm]
        rcases ab with ⟨c1, c2⟩ | ⟨c1, c2⟩
        · rw [c2, bd_so, bd_so, if_pos rfl, if_pos rfl]; exact e314 21
        · rw [c2, bd_so, bd_so, if_neg n10, if_neg n10]; exact e314 20
      by_cases c3 : xt τ f x = 3
      · rw [if_pos c3, (rd_r S y0 yR).1, bd_so] at hx
        rw [if_pos c3] at hm'
        exact good_UO C A hx hm' (flt vy) hFF hnn
      · rw [if_neg c3, (rd_r S x0 xR).1, bd_so] at hx
        rw [if_neg c3] at hm'
        exact good_UO C A hx hm' (flt vx) hFF hnn
    · have hne : ¬ h = -1 := fun q => by rw [q] at h0; exact absurd h0 (by decide)
      rw [i1, bd_so, if_neg hne, (rd_r S x0 xR).1, bd_so, (rd_r S x0 xR).2, bd_so, (rd_r S y0 yR).1, bd_so, (rd_r S y0 yR).2, bd_so, sg269] at hx
      rw [i2, kk_1 (fun z => by rw [if_neg n10]; rfl)] at hm
      exact good_G A hx hm G2
  by_cases cx : xt τ f x = 3
  · rw [if_pos cx, (rd_r S y0 yR).1, bd_so] at hx
    rw [if_pos (tvx.2.1.mp cx)] at hm
    by_cases cy : xt τ f y = 3
    · rw [cx, tvx.2.1.mp cx] at vx
      rw [cy, tvy.2.1.mp cy] at vy
      have ex := VV_3 vx
      have ey := VV_3 vy
      rw [if_pos cy, (rd_r S x0 xR).2, bd_so, (rd_r S y0 yR).2, bd_so] at hx
      rw [if_pos (tvy.2.1.mp cy)] at hm
      by_cases dz : (s = 300 ∨ s = 137) ∧ xv τ f y = 0
      · rw [arr_0 ar (eN e) τ τm dz.2 dz.1] at hx
        have hm' : mm_act (eN e) μ = mm_two_242 (eN e) τm := by
          rw [hm, if_pos (lgc_eq.mpr (ey.symm.trans dz.2))]
          rcases dz.1 with h | h
          · rw [if_pos h]
          · rw [if_neg (by rw [h]; decide), if_pos h]
        have hxx : xx6_step (eN e) σ = bx (xx6_fault (eN e) τ (3000 + 17)) (fun z => some (Except.error (z.1, z.2))) := by
          rw [hx, bx_bx]
          congr 1
        exact good_UO C A hxx hm' (UO_bd (fault_UO E (PT_UK S.1 LL) (t := 17) (tm := 19) (by decide) (by decide) tx_17 (by decide +kernel)) (fun z => rfl)) S.1.2.2.2.2.1 S.1.2.2.2.2.2
      · obtain ⟨v, i1, i2⟩ := reckon_2 ar (x := xv τ f x) (y := xv τ f y) (eN e) τ τm (fun h h' => dz ⟨h, h'⟩)
        obtain ⟨p1, p2, p3⟩ := push_1 (N := eN e) (N' := eN e) S2 zk1 ok (VV_n (w := w) (v := v))
        have hm' : mm_act (eN e) μ = mm_two_250 (eN e) s B (B + 1) τm := by
          rw [hm]
          by_cases d0 : lg_cmp (sJ τm 142 (B + 1)) 0 = 0
          · have ey0 := ey.trans (lgc_eq.mp d0)
            rw [if_pos d0, if_neg (fun h => dz ⟨.inl h, ey0⟩), if_neg (fun h => dz ⟨.inr h, ey0⟩)]
          · rw [if_neg d0]
        refine Good_2 A (hx.trans ?_) (hm'.trans ?_) (GK_lo G p3.1 L)
        · rw [i1, bx_so, p1, bd_so]; rfl
        · rw [mm_two_250, gd_in (by decide) bb.1.1 bb.1.2, gd_in (by decide) bb.2.1.1 bb.2.1.2, e142, e142, ← ex, ← ey, i2, bd_so, lt, p2, bd_so]; rfl
    · rw [if_neg cy] at hx
      rw [if_neg (fun q => cy (tvy.2.1.mpr q))] at hm
      exact hd hx hm ⟨_, .inl rfl, if_pos cx⟩
  · rw [if_neg cx] at hx
    rw [if_neg (fun q => cx (tvx.2.1.mpr q))] at hm
    exact hd hx hm ⟨_, .inr rfl, if_neg cx⟩
