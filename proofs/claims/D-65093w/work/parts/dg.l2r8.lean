/-! LAYER 2: step rules: tables -/
theorem tx_9 : xtx 9 = mtx 17 := by decide +kernel
theorem VV_tn {w : WD} {a b : Int32} (h : (a, b) ∈ wT w) : VV w 5 (Int32.toInt64 a) 4 (Int32.toInt64 b) := .inr (.inr (.inr (.inr (.inr (.inl ⟨rfl, rfl, a, b, rfl, rfl, h⟩)))))
/-- put on both sides -/
theorem put_S {e : EV} {w : WD} {xf : Int32 → List Int32} {c d : Int32} {rest : PL2} {f : Int32} {fl : List Int32} {ρ : List Int32} {m : Int32} {g p q F n : Int32} {σ μ : mS} (E : EVok e) (S : ST e w xf c d rest f fl ρ m g p q F n σ μ) (L : LE σ (mff μ) f (n - 1)) {a b kx km tx tm : Int32} {vx vm yx ym : Int64} (h : (a, b) ∈ wT w) (k : VV w kx vx km vm) (k0 : kx ≠ 0) (v : VV w tx yx tm ym) : ∃ τ τm, ST e w xf c d rest f fl ρ m g p q F n τ τm ∧ LE τ (mff τm) f (n - 1) ∧ m_fr (inR 197 221) σ τ ∧ m_fr (inR 21 41) μ τm ∧ ((xx3_put (eN e) σ a kx vx tx yx = some (.ok τ) ∧ mm_set (eN e) μ b km vm tm ym = some (1, τm)) ∨ (xx3_put (eN e) σ a kx vx tx yx = some (.error (1101, τ)) ∧ mm_set (eN e) μ b km vm tm ym = bd (mm_breakOff (eN e) τm 3) (fun z => some (0, z)))) := by
  obtain ⟨τ, τm, R, fr, frm, o⟩ := put_h (EV_N E) S.1.1.1.1.1.1 h k k0 (VV_8 k) v
  exact ⟨τ, τm, ST_hp S R wle_rfl rfl rfl rfl ⟨fun i => mf_I fr rfl, fun i => mf_I fr rfl, fun a b _ => mf_I fr (ir_f (by omega))⟩ fr frm (fun k hk => ir_f (by omega)) (fun k hk => ir_f (by omega)) (fun k _ => by rw [frm.2.2.1 44 rfl]), LE_fr L fr frm rfl rfl rfl, fr, frm, o⟩
/-- one value more, told by any number that fits -/
theorem push_c {e : EV} {w : WD} {xf : Int32 → List Int32} {c d : Int32} {rest : PL2} {f : Int32} {fl : List Int32} {ρ : List Int32} {g p q F n : Int32} {σ μ : mS} (S : ST e w xf c d rest f fl ρ (-1) g p q F n σ μ) (z : zk e g ρ) {r x tx tm : Int32} {vx vm : Int64} (ok : okr ρ r 1 (sI (eσ e) 261 g)) (v : VV w tx vx tm vm) (hx : ∀ τ, VV w (xt τ f r) (xv τ f r) tm vm → RV w τ f x tm vm) {N N' : Nat} : xx6_set N σ r tx vx = some (xS σ (sI σ 347 f + r) tx vx) ∧ mm_push N' μ tm vm = some (mPu μ tm vm) ∧ ST e w xf c d rest f fl (ρ ++ [x]) (-1) g p q F n (xS σ (sI σ 347 f + r) tx vx) (mPu μ tm vm) := by
  have t8 := VV_t8 v
  obtain ⟨s1, S1, ⟨s2, s3⟩, _⟩ := set_1 (N := N) (t := tx) (v := vx) S z ok t8.1.1 t8.1.2
  obtain ⟨p1, p2⟩ := push_m1 (N := N') (x := x) S1.1 z.1 (hx _ (by rw [s2, s3]; exact v))
  exact ⟨s1, p1, p2, S1.2⟩
/-- numbers that say less -/
def wkn (x x' : Int32) : Prop := x' = x ∨ ∃ r, (0 ≤ r ∧ r ≤ 2500) ∧ ((x = -20000 - r ∧ x' = r) ∨ (x = -30000 - r ∧ x' = r) ∨ (x = -10000 - r ∧ x' = -1) ∨ (x = -40000 - r ∧ x' = r))
theorem RV_w {w : WD} {σ : mS} {f x x' tm : Int32} {vm : Int64} (h : RV w σ f x tm vm) (k : wkn x x') : RV w σ f x' tm vm := by
  rcases k with rfl | ⟨r, ⟨r0, r1⟩, ⟨rfl, rfl⟩ | ⟨rfl, rfl⟩ | ⟨rfl, rfl⟩ | ⟨rfl, rfl⟩⟩
  · exact h
  · exact .inr (.inl ⟨r0, (RV_tab h r0 r1).1⟩)
  · exact .inr (.inl ⟨r0, (RV_num h r0 r1).1⟩)
  · rcases h with ⟨_, h⟩ | ⟨h, _⟩ | ⟨_, _, _, _, _, _, _, _, h⟩ | ⟨_, h, _⟩ | ⟨h, _⟩
    · exact .inl ⟨rfl, h⟩
    · exact absurd h (by lia)
    · exact absurd h (by lia)
    · exact .inl ⟨rfl, h⟩
    · exact absurd h (by lia)
  · exact .inr (.inl ⟨r0, (RV_nz h r0 r1).1⟩)
theorem r_weak {e : EV} {w : WD} {xf : Int32 → List Int32} {c d : Int32} {rest : PL2} {f : Int32} {fl : List Int32} {ρ : List Int32} {g p q F n : Int32} {σ μ : mS} (Z : ZRok e) {M rk : Nat} (G : GK e M F n rk) (A : PT e w xf c d rest f fl ρ (-1) g p q F n σ μ) (z : eZ e rk g p q ρ (-1)) {ρ' : List Int32} (hl : ρ'.length = ρ.length) (h : ∀ j, j < ρ.length → wkn (ρ.getD j 0) (ρ'.getD j 0)) (L : lo e rk g p q ρ' (-1)) : Good e (M + 3000) σ μ :=
  Good_mono (GK_lo G (PT_ren A (Z _ _ _ _ _ _ z).1 hl (fun j hj _ _ rv => RV_w rv (h j hj))) L) (by omega)
/-- TABLE -/
theorem r_table {e : EV} {w : WD} {xf : Int32 → List Int32} {c d : Int32} {rest : PL2} {f : Int32} {fl : List Int32} {ρ : List Int32} {g p q F n : Int32} {σ μ : mS} {M rk : Nat} (C : CXT e M F n rk) (A : PT e w xf c d rest f fl ρ (-1) g p q F n σ μ) (z : eZ e rk g p q ρ (-1)) (ho : opx e p 16) (ha : acm e q 18) (ln : lin e p q) (ok : okr ρ (nx e (p + 1)) 1 (sI (eσ e) 261 g)) (L : lo e rk g (p + 2) (q + 1) (ρ ++ [-20000 - nx e (p + 1)]) (-1)) : Good e (M + 3000) σ μ := by
  obtain ⟨E, _, Z, _, _, G, _, _⟩ := id C
  have hx := PT_x A ho (fun s => rfl)
  have S := PT_s A 2
  have LL := PT_LE (k := 0) A ho ln 2
  have o := ops_1 ho.1.1 ho.1.2
  have hm := act_f A ha
  rw [af_18, act_g A ha, mf_18, act_b] at hm
  have h256 := fun i => xP_256 S.1 i
  obtain ⟨k1, xa, xl⟩ := rare_k (N := eN e) (k := 16) ho.1.1 ho.1.2 h256
  rw [sf_16, rare_s, k1, rf_16] at hx
  clear k1
  generalize xP σ f p 2 = τ at hx S h256 LL
  generalize actP μ (n - 1) q = τm at hm S LL
  have zk0 := zk_of Z z
  rcases table_h (N := eN e) S.1.1.1.1.1.1 with ⟨b1, b2⟩ | ⟨a, b, υ, υm, b1, b2, R, a0, b0, fr, frm⟩
  · refine good_UO C A hx hm (room_UO (PT_UK S.1 LL) (h := fun z => z) (by rw [b1]; rfl) (fun μ' hb => ⟨μ', ?_, mf_rfl⟩)) S.1.2.2.2.2.1 S.1.2.2.2.2.2
    rw [b2, bd_bd, hb, bd_so, bd_so, if_pos (show (-1 : Int32) < 0 from by decide)]; rfl
  · have bx : ∀ k, k < 194 ∨ 237 < k → hT k = false := fun k hk => by
      simp only [hT, List.contains_cons, List.contains_nil, Bool.or_eq_false_iff, beq_eq_false_iff_ne]
      (repeat' (first | exact trivial | omega | apply And.intro))
    have bm : ∀ k, k < 16 ∨ 57 < k → mT k = false := fun k hk => by
      simp only [mT, List.contains_cons, List.contains_nil, Bool.or_eq_false_iff, beq_eq_false_iff_ne]
      (repeat' (first | exact trivial | omega | apply And.intro))
    have S2 := ST_hp S R wAddT_le wT_eq.1 wT_eq.2.1 wT_eq.2.2 ⟨fun i => mf_I fr rfl, fun i => mf_I fr rfl, fun a b _ => mf_I fr rfl⟩ fr frm bx bm (fun k _ => by rw [frm.2.2.1 44 rfl])
    have v : VV (wAddT w a b) 5 (Int32.toInt64 a) 4 (Int32.toInt64 b) := VV_tn List.mem_cons_self
    obtain ⟨p1, p2, p3⟩ := push_c (N := eN e) (N' := eN e) (x := -20000 - nx e (p + 1)) S2 zk0 ok v (fun τ h => RV_t ok.1 ok.2.1 h rfl)
    refine Good_2 A (hx.trans ?_) (hm.trans ?_) (GK_lo G p3.1 L)
    · rw [b1, bx_so, p1, bd_so]; rfl
    · rw [b2, bd_so, if_neg (by lia), p2, bd_so]; rfl
theorem g3_0 {ρ0 : List Int32} {a b c : Int32} : (ρ0 ++ [a] ++ [b] ++ [c]).getD ρ0.length 0 = a := by simp [List.getD_eq_getElem?_getD]
theorem g3_1 {ρ0 : List Int32} {a b c : Int32} : (ρ0 ++ [a] ++ [b] ++ [c]).getD (ρ0.length + 1) 0 = b := by simp [List.getD_eq_getElem?_getD]
theorem g3_2 {ρ0 : List Int32} {a b c : Int32} : (ρ0 ++ [a] ++ [b] ++ [c]).getD (ρ0.length + 2) 0 = c := by simp [List.getD_eq_getElem?_getD]
theorem g2_0 {ρ0 : List Int32} {a b : Int32} : (ρ0 ++ [a] ++ [b]).getD ρ0.length 0 = a := by simp [List.getD_eq_getElem?_getD]
theorem g2_1 {ρ0 : List Int32} {a b : Int32} : (ρ0 ++ [a] ++ [b]).getD (ρ0.length + 1) 0 = b := by simp [List.getD_eq_getElem?_getD]
theorem m2_1 {x : Int32} : x - 2 = x - 1 - 1 := by lia
theorem m3_1 {x : Int32} : x - 3 = x - 1 - 1 - 1 := by lia
/-- three values on top -/
theorem top_3 {e : EV} {w : WD} {xf : Int32 → List Int32} {c d : Int32} {rest : PL2} {f : Int32} {fl : List Int32} {g p q F n : Int32} {σ μ : mS} {ρ0 : List Int32} {a b k : Int32} (A : PT e w xf c d rest f fl (ρ0 ++ [a] ++ [b] ++ [k]) (-1) g p q F n σ μ) (h3 : (ρ0 ++ [a] ++ [b] ++ [k]).length ≤ 2000) : ∃ B, (sF μ 143 = B + 3 ∧ sF μ 143 - 1 = B + 2 ∧ sF μ 143 - 2 = B + 1 ∧ sF μ 143 - 3 = B) ∧ (0 ≤ B ∧ B + 3 < 490000 ∧ B ≤ 480000) ∧ B = mff μ (n - 1) 3 + Int32.ofNat ρ0.length ∧ B + 1 = mff μ (n - 1) 3 + Int32.ofNat (ρ0.length + 1) ∧ B + 2 = mff μ (n - 1) 3 + Int32.ofNat (ρ0.length + 2) ∧ RV w σ f a (sI μ 141 B) (sJ μ 142 B) ∧ RV w σ f b (sI μ 141 (B + 1)) (sJ μ 142 (B + 1)) ∧ RV w σ f k (sI μ 141 (B + 2)) (sJ μ 142 (B + 2)) := by
  obtain ⟨h1, h2, _, h4, h5⟩ := PT_at A h3
  have ln : (ρ0 ++ [a] ++ [b] ++ [k]).length = ρ0.length + 3 := by simp
  rw [ln] at h1 h2 h3
  have N := (PT_N A).2.2.1
  have r0 := h1 ρ0.length (by omega)
  have r1 := h1 (ρ0.length + 1) (by omega)
  have r2 := h1 (ρ0.length + 2) (by omega)
  rw [g3_0] at r0
  rw [g3_1] at r1
  rw [g3_2] at r2
  have e1 : mff μ (n - 1) 3 + Int32.ofNat (ρ0.length + 1) = mff μ (n - 1) 3 + Int32.ofNat ρ0.length + 1 := b_p1.symm
  have e2 : mff μ (n - 1) 3 + Int32.ofNat (ρ0.length + 2) = mff μ (n - 1) 3 + Int32.ofNat ρ0.length + 2 := by rw [← b_p1, e1]; lia
  have e3 : mff μ (n - 1) 3 + Int32.ofNat (ρ0.length + 3) = mff μ (n - 1) 3 + Int32.ofNat ρ0.length + 3 := by rw [← b_p1, e2]; lia
  have bd := tp_1 (n := ρ0.length) (by omega) N.1 N.2
  have bd2 := oN_bd (n := ρ0.length) (by omega)
  rw [e1] at r1
  rw [e2] at r2
  rw [e3] at h2
  refine ⟨mff μ (n - 1) 3 + Int32.ofNat ρ0.length, ⟨h2, by rw [h2]; lia, by rw [h2]; lia, by rw [h2]; lia⟩, ⟨bd.1, ?_, ?_⟩, rfl, e1.symm, e2.symm, r0, r1, r2⟩
  · have := N.1; have := N.2; clear h1 h5 r0 r1 r2; lia
  · have := N.1; have := N.2; clear h1 h5 r0 r1 r2; lia
theorem top_2 {e : EV} {w : WD} {xf : Int32 → List Int32} {c d : Int32} {rest : PL2} {f : Int32} {fl : List Int32} {g p q F n : Int32} {σ μ : mS} {ρ0 : List Int32} {a b : Int32} (A : PT e w xf c d rest f fl (ρ0 ++ [a] ++ [b]) (-1) g p q F n σ μ) (h3 : (ρ0 ++ [a] ++ [b]).length ≤ 2000) : ∃ B, (sF μ 143 = B + 2 ∧ sF μ 143 - 1 = B + 1 ∧ sF μ 143 - 2 = B) ∧ (0 ≤ B ∧ B + 3 < 490000 ∧ B ≤ 480000) ∧ B = mff μ (n - 1) 3 + Int32.ofNat ρ0.length ∧ B + 1 = mff μ (n - 1) 3 + Int32.ofNat (ρ0.length + 1) ∧ RV w σ f a (sI μ 141 B) (sJ μ 142 B) ∧ RV w σ f b (sI μ 141 (B + 1)) (sJ μ 142 (B + 1)) := by
  obtain ⟨h1, h2, _, h4, h5⟩ := PT_at A h3
  have ln : (ρ0 ++ [a] ++ [b]).length = ρ0.length + 2 := by simp
  rw [ln] at h1 h2 h3
  have N := (PT_N A).2.2.1
  have r0 := h1 ρ0.length (by omega)
  have r1 := h1 (ρ0.length + 1) (by omega)
  rw [g2_0] at r0
  rw [g2_1] at r1
  have e1 : mff μ (n - 1) 3 + Int32.ofNat (ρ0.length + 1) = mff μ (n - 1) 3 + Int32.ofNat ρ0.length + 1 := b_p1.symm
  have e2 : mff μ (n - 1) 3 + Int32.ofNat (ρ0.length + 2) = mff μ (n - 1) 3 + Int32.ofNat ρ0.length + 2 := by rw [← b_p1, e1]; lia
  have bd := tp_1 (n := ρ0.length) (by omega) N.1 N.2
  have bd2 := oN_bd (n := ρ0.length) (by omega)
  rw [e1] at r1
  rw [e2] at h2
  refine ⟨mff μ (n - 1) 3 + Int32.ofNat ρ0.length, ⟨h2, by rw [h2]; lia, by rw [h2]; lia⟩, ⟨bd.1, ?_, ?_⟩, rfl, e1.symm, r0, r1⟩
  · have := N.1; have := N.2; clear h1 h5 r0 r1; lia
  · have := N.1; have := N.2; clear h1 h5 r0 r1; lia
theorem bnd3 {B : Int32} (h0 : 0 ≤ B) (h2 : B ≤ 480000) : (0 ≤ B ∧ B < 500000) ∧ (0 ≤ B + 1 ∧ B + 1 < 500000) ∧ (0 ≤ B + 2 ∧ B + 2 < 500000) ∧ (0 ≤ B + 3 ∧ B + 3 < 500000) ∧ B + 1 - 1 = B ∧ B + 1 + 1 = B + 2 ∧ B + 2 - 1 = B + 1 := ⟨⟨h0, by lia⟩, ⟨by lia, by lia⟩, ⟨by lia, by lia⟩, ⟨by lia, by lia⟩, by lia, by lia, by lia⟩
/-- RAW_PUT, FIELD -/
theorem r_rawput {e : EV} {w : WD} {xf : Int32 → List Int32} {c d : Int32} {rest : PL2} {f : Int32} {fl : List Int32} {g p q F n : Int32} {σ μ : mS} {M rk : Nat} {ρ0 : List Int32} {r k v : Int32} (C : CXT e M F n rk) (A : PT e w xf c d rest f fl (ρ0 ++ [-20000 - r] ++ [k] ++ [v]) (-1) g p q F n σ μ) (z : eZ e rk g p q (ρ0 ++ [-20000 - r] ++ [k] ++ [v]) (-1)) (ho : opx e p 17) (ha : acm e q 19) (ln : lin e p q) (r0 : 0 ≤ r) (r1 : r ≤ 2500) (hr : nx e (p + 1) = r) (hk : nx e (p + 2) = k) (hv : nx e (p + 3) = v) (k0 : 0 ≤ k) (v0 : 0 ≤ v) (L : lo e rk g (p + 4) (q + 1) (ρ0 ++ [-20000 - r]) (-1)) : Good e (M + 3000) σ μ := by
  obtain ⟨E, _, Z, _, _, G, _, _⟩ := id C
  have hx := PT_x A ho (fun s => rfl)
  have S := PT_s A 4
  have LL := PT_LE (k := 0) A ho ln 4
  have o := ops_1 ho.1.1 ho.1.2
  have hm := act_f A ha
  rw [af_19, act_g A ha, mf_19, act_b] at hm
  have h256 := fun i => xP_256 S.1 i
  obtain ⟨k1, xa, xl⟩ := rare_k (N := eN e) (k := 17) ho.1.1 ho.1.2 h256
  rw [sf_17, rare_s, k1, rf_17, xa, xl, gd_tt, gd_in (by decide) o.2.1.1 o.2.1.2, h256, hk, hr] at hx
  clear k1
  generalize xP σ f p 4 = τ at hx S h256 LL
  generalize actP μ (n - 1) q = τm at hm S LL
  have zk0 := zk_of Z z
  obtain ⟨B, ⟨t0, t1, t2, t3⟩, ⟨B0, B1, B2⟩, e0, e1, e2, v0', v1', v2'⟩ := top_3 S.1 zk0.1
  have bb := bnd3 B0 B2
  have hl3 := zk0.1
  have ln3 : (ρ0 ++ [-20000 - r] ++ [k] ++ [v]).length = ρ0.length + 3 := by simp
  have A2 := PT_take S.1 (j := ρ0.length + 1) (by rw [ln3]; omega) e1
  have tk : (ρ0 ++ [-20000 - r] ++ [k] ++ [v]).take (ρ0.length + 1) = ρ0 ++ [-20000 - r] := by
    rw [List.append_assoc (ρ0 ++ [-20000 - r]), List.take_left' (by simp)]
  rw [tk] at A2
  have S2 : ST e w xf c d rest f fl (ρ0 ++ [-20000 - r]) (-1) g (p + 4) (q + 1) F n τ (md_pi τm 143 (B + 1)) := ⟨A2, S.2⟩
  have LL2 : LE τ (mff (md_pi τm 143 (B + 1))) f (n - 1) := LL
  have vt := RV_tab v0' r0 r1
  have vk := RV_V v1' k0
  have vv := RV_V v2' v0
  have kR := (zk_reg zk0 (x := k) (by simp) k0)
  have vR := (zk_reg zk0 (x := v) (by simp) v0)
  have rR : r < sI (eσ e) 261 g := by
    have := zk0.2 (-20000 - r) (by simp)
    rw [dc_tb r0 (by lia)] at this
    exact this
  have x5 : xt τ f r = 5 := (VV_t vt.1).2.2.2.1.mpr vt.2
  have vt' := vt.1
  rw [x5] at vt'
  have tb := VV_tb vt'
  have g0 : (md_pi τm 143 (sF τm 143 - 2)).1 143 = sF τm 143 - 2 := rfl
  have e141 : ∀ i : Int32, (md_pi τm 143 (B + 1)).2.2.1 141 i.toNatClampNeg = sI τm 141 i := fun i => rfl
  have e142 : ∀ i : Int32, (md_pi τm 143 (B + 1)).2.2.2 142 i.toNatClampNeg = sJ τm 142 i := fun i => rfl
  rw [(rd_r S k0 kR).1, bd_so] at hx
  rw [lt, show τm.1 143 = sF τm 143 from rfl, t2, show (md_pi τm 143 (B + 1)).1 143 = B + 1 from rfl, gd_in (by decide) bb.2.1.1 bb.2.1.2, e141] at hm
  have nk := VV_t vk
  by_cases kn : xt τ f k = 0
  · rw [if_pos kn] at hx
    rw [if_pos (nk.1.mp kn)] at hm
    exact good_UO C A hx hm (UO_bd (fault_UO E (PT_UK S2.1 LL2) (t := 9) (tm := 17) (by decide) (by decide) tx_9 (by decide +kernel)) (fun z => rfl)) S.1.2.2.2.2.1 S2.1.2.2.2.2.2
  · rw [if_neg kn, (rd_r S r0 rR).2, bd_so, gd_tt, gd_in (by decide) o.2.1.1 o.2.1.2, h256, hk, (rd_r S k0 kR).1, bd_so, gd_tt, gd_in (by decide) o.2.1.1 o.2.1.2, h256, hk, (rd_r S k0 kR).2, bd_so, gd_tt, gd_in (by decide) o.2.2.1.1 o.2.2.1.2, h256, hv, (rd_r S v0 vR).1, bd_so, gd_tt, gd_in (by decide) o.2.2.1.1 o.2.2.1.2, h256, hv, (rd_r S v0 vR).2, bd_so] at hx
    rw [if_neg (fun h => kn (nk.1.mpr h)), bb.2.2.2.2.1, bb.2.2.2.2.2.1, gd_in (by decide) bb.1.1 bb.1.2, gd_in (by decide) bb.2.1.1 bb.2.1.2, gd_in (by decide) bb.2.1.1 bb.2.1.2, gd_in (by decide) bb.2.2.1.1 bb.2.2.1.2, gd_in (by decide) bb.2.2.1.1 bb.2.2.1.2, e141, e142, e142, e142] at hm
    obtain ⟨υ, υm, S3, LL3, fr, frm, ⟨o1, o2⟩ | ⟨o1, o2⟩⟩ := put_S E S2 LL2 tb.1 vk kn vv
    · exact Good_2 A (hx.trans (by rw [o1, bx_so]; rfl)) (hm.trans (by rw [o2, bd_so]; rfl)) (GK_lo G S3.1 L)
    · refine good_UO C A hx hm (room_UO (PT_UK S3.1 LL3) (h := fun z => z) (by rw [o1]; rfl) (fun μ' hb => ⟨μ', ?_, mf_rfl⟩)) (S.1.2.2.2.2.1) S.1.2.2.2.2.2
      rw [o2, bd_bd, hb, bd_so, bd_so]; rfl
/-- APPEND, ITEM -/
theorem r_append {e : EV} {w : WD} {xf : Int32 → List Int32} {c d : Int32} {rest : PL2} {f : Int32} {fl : List Int32} {g p q F n : Int32} {σ μ : mS} {M rk : Nat} {ρ0 : List Int32} {r v : Int32} (C : CXT e M F n rk) (A : PT e w xf c d rest f fl (ρ0 ++ [-20000 - r] ++ [v]) (-1) g p q F n σ μ) (z : eZ e rk g p q (ρ0 ++ [-20000 - r] ++ [v]) (-1)) (ho : opx e p 18) (ha : acm e q 20) (ln : lin e p q) (r0 : 0 ≤ r) (r1 : r ≤ 2500) (hr : nx e (p + 1) = r) (hk : nx e (p + 2) = sI (eμ e) 71 q) (hv : nx e (p + 3) = v) (v0 : 0 ≤ v) (L : lo e rk g (p + 4) (q + 1) (ρ0 ++ [-20000 - r]) (-1)) : Good e (M + 3000) σ μ := by
  obtain ⟨E, _, Z, _, _, G, _, _⟩ := id C
  have hx := PT_x A ho (fun s => rfl)
  have S := PT_s A 4
  have LL := PT_LE (k := 0) A ho ln 4
  have o := ops_1 ho.1.1 ho.1.2
  have hm := act_f A ha
  rw [af_20, act_g A ha, mf_20, act_b] at hm
  have h256 := fun i => xP_256 S.1 i
  obtain ⟨k1, xa, xl⟩ := rare_k (N := eN e) (k := 18) ho.1.1 ho.1.2 h256
  rw [sf_18, rare_s, k1, rf_18, xa, xl, hr] at hx
  clear k1
  generalize xP σ f p 4 = τ at hx S h256 LL
  generalize actP μ (n - 1) q = τm at hm S LL
  have zk0 := zk_of Z z
  obtain ⟨B, ⟨t0, t1, t2⟩, ⟨B0, B1, B2⟩, e0, e1, v0', v1'⟩ := top_2 S.1 zk0.1
  have bb := bnd3 B0 B2
  have ln3 : (ρ0 ++ [-20000 - r] ++ [v]).length = ρ0.length + 2 := by simp
  have A2 := PT_take S.1 (j := ρ0.length + 1) (by rw [ln3]; omega) e1
  rw [List.take_left' (by simp)] at A2
  have S2 : ST e w xf c d rest f fl (ρ0 ++ [-20000 - r]) (-1) g (p + 4) (q + 1) F n τ (md_pi τm 143 (B + 1)) := ⟨A2, S.2⟩
  have LL2 : LE τ (mff (md_pi τm 143 (B + 1))) f (n - 1) := LL
  have vt := RV_tab v0' r0 r1
  have vv := RV_V v1' v0
  have vR := (zk_reg zk0 (x := v) (by simp) v0)
  have rR : r < sI (eσ e) 261 g := by
    have := zk0.2 (-20000 - r) (by simp)
    rw [dc_tb r0 (by lia)] at this
    exact this
  have x5 : xt τ f r = 5 := (VV_t vt.1).2.2.2.1.mpr vt.2
  have vt' := vt.1
  rw [x5] at vt'
  have tb := VV_tb vt'
  have e141 : ∀ i : Int32, (md_pi τm 143 (B + 1)).2.2.1 141 i.toNatClampNeg = sI τm 141 i := fun i => rfl
  have e142 : ∀ i : Int32, (md_pi τm 143 (B + 1)).2.2.2 142 i.toNatClampNeg = sJ τm 142 i := fun i => rfl
  rw [(rd_r S r0 rR).2, bd_so, gd_tt, gd_in (by decide) o.2.1.1 o.2.1.2, gd_tt, gd_in (by decide) o.2.2.1.1 o.2.2.1.2, h256, hv, (rd_r S v0 vR).1, bd_so, gd_tt, gd_in (by decide) o.2.2.1.1 o.2.2.1.2, h256, hv, (rd_r S v0 vR).2, bd_so, h256, hk] at hx
  rw [lt, show τm.1 143 = sF τm 143 from rfl, t1, show (md_pi τm 143 (B + 1)).1 143 = B + 1 from rfl, bb.2.2.2.2.1, gd_in (by decide) bb.1.1 bb.1.2, gd_in (by decide) bb.2.1.1 bb.2.1.2, gd_in (by decide) bb.2.1.1 bb.2.1.2, e141, e142, e142] at hm
  obtain ⟨υ, υm, S3, LL3, fr, frm, ⟨o1, o2⟩ | ⟨o1, o2⟩⟩ := put_S E S2 LL2 tb.1 (VV_n (w := w) (v := Int32.toInt64 (sI (eμ e) 71 q))) (by decide) vv
  · exact Good_2 A (hx.trans (by rw [o1, bx_so]; rfl)) (hm.trans (by rw [o2, bd_so]; rfl)) (GK_lo G S3.1 L)
  · refine good_UO C A hx hm (room_UO (PT_UK S3.1 LL3) (h := fun z => z) (by rw [o1]; rfl) (fun μ' hb => ⟨μ', ?_, mf_rfl⟩)) (S.1.2.2.2.2.1) S.1.2.2.2.2.2
    rw [o2, bd_bd, hb, bd_so, bd_so]; rfl
