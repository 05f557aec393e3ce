/-! LAYER 2: step rules: CALL -/
def callK (N : Nat) (x7 : Int32) (z44 : mS) : Option (Except (Nat × mS) mS) := gd (inB ((x7 + (1 : Int32))) 340000) (gd (inB ((z44.1 411)) 202) (lt (md_ai z44 353 (Int32.toNatClampNeg ((z44.1 411))) ((z44.2.2.1 256 (Int32.toNatClampNeg ((x7 + (1 : Int32))))))) (fun σ45 : mS => gd (inB ((x7 + (1 : Int32))) 340000) (bd (xx6_tag N σ45 ((σ45.2.2.1 256 (Int32.toNatClampNeg ((x7 + (1 : Int32))))))) (fun z46 => gd (inB ((x7 + (1 : Int32))) 340000) (bd (xx6_value N z46.2 ((z46.2.2.2.1 256 (Int32.toNatClampNeg ((x7 + (1 : Int32))))))) (fun z47 => gd (inB ((x7 + (1 : Int32))) 340000) (gd (inB ((x7 + (3 : Int32))) 340000) (bx (xx6_begin N z47.2 (z46.1) (z47.1) ((0 : Int32)) ((z47.2.2.2.1 256 (Int32.toNatClampNeg ((x7 + (1 : Int32)))))) ((z47.2.2.2.1 256 (Int32.toNatClampNeg ((x7 + (3 : Int32))))))) (fun z48 => xx6_step_b793 N z48))))))))))
theorem sf_24c {N : Nat} {x7 : Int32} {σ11 : mS} : stepF N 24 x7 σ11 = gd (inB ((x7 + (1 : Int32))) 340000) (gd (inB ((x7 + (2 : Int32))) 340000) (bd (xx6_gather N σ11 ((σ11.2.2.1 256 (Int32.toNatClampNeg ((x7 + (1 : Int32)))))) ((σ11.2.2.1 256 (Int32.toNatClampNeg ((x7 + (2 : Int32))))))) (callK N x7))) := rfl
/-- a register is read behind other changes -/
theorem rd_fr {e : EV} {w : WD} {xf : Int32 → List Int32} {c d : Int32} {rest : PL2} {f : Int32} {fl : List Int32} {ρ : List Int32} {m : Int32} {g p q F n : Int32} {σ μ : mS} {P : Nat → Bool} {τ : mS} (S : ST e w xf c d rest f fl ρ m g p q F n σ μ) (fr : m_fr P σ τ) (h0 : P 410 = false) (h1 : P 364 = false) (h2 : P 365 = false) {r : Int32} (r0 : 0 ≤ r) (r1 : r < sI σ 349 f) {N : Nat} : xx6_tag N τ r = some (xt σ f r, τ) ∧ xx6_value N τ r = some (xv σ f r, τ) := by
  have b := MR0_f S.1.1.1
  have I := rg_i2 b.2.2.1.1 b.2.2.1.2.2.1 b.2.2.1.2.1 b.2.2.1.2.2.2 r0 r1
  have e410 : τ.1 410 = sI σ 347 f := (mf_F fr h0).trans S.2.1
  have q1 : τ.2.2.1 364 (sI σ 347 f + r).toNatClampNeg = xt σ f r := mf_I fr h1
  have q2 : τ.2.2.2 365 (sI σ 347 f + r).toNatClampNeg = xv σ f r := mf_J fr h2
  exact ⟨by rw [xx6_tag, e410, gd_in (by decide) I.1 I.2, q1], by rw [xx6_value, e410, gd_in (by decide) I.1 I.2, q2]⟩
theorem callK_x {e : EV} {w : WD} {xf : Int32 → List Int32} {c d : Int32} {rest : PL2} {f : Int32} {fl : List Int32} {ρ : List Int32} {m : Int32} {g p q F n : Int32} {σ μ : mS} {υ : mS} {p0 r want : Int32} (S : ST e w xf c d rest f fl ρ m g p q F n σ μ) (fr : m_fr (fun k => [397, 398, 399].contains k) σ υ) (ho : 0 ≤ p0 ∧ p0 < 339900) (h1 : nx e (p0 + 1) = r) (h3 : nx e (p0 + 3) = want) (r0 : 0 ≤ r) (r1 : r < sI σ 349 f) {N : Nat} : callK N p0 υ = xx6_begin N (md_ai υ 353 f.toNatClampNeg r) (xt σ f r) (xv σ f r) 0 r want := by
  have o := ops_1 ho.1 ho.2
  have f01 := (PT_N S.1).1
  have e411 : υ.1 411 = f := (mf_F fr (k := 411) rfl).trans S.2.2
  have fr2 : m_fr (fun k => [353, 397, 398, 399].contains k) σ (md_ai υ 353 f.toNatClampNeg r) := mf_ai (mf_mono fr (fun k hk => by
    simp only [List.contains_cons, List.contains_nil, Bool.or_eq_false_iff, beq_eq_false_iff_ne] at hk ⊢
    (repeat' (first | exact trivial | omega | apply And.intro)))) rfl
  have h256 : ∀ i : Int32, υ.2.2.1 256 i.toNatClampNeg = nx e i := fun i => (mf_I fr (k := 256) rfl).trans (xP_256 S.1 i)
  have h256' : ∀ i : Int32, (md_ai υ 353 f.toNatClampNeg r).2.2.1 256 i.toNatClampNeg = nx e i := fun i => (mf_I fr2 (k := 256) rfl).trans (xP_256 S.1 i)
  obtain ⟨t1, t2⟩ := rd_fr (N := N) S fr2 rfl rfl rfl r0 r1
  rw [callK, gd_in (by decide) o.1.1 o.1.2, e411, gd_in (by decide) f01.1 f01.2, h256, h1, lt, gd_in (by decide) o.1.1 o.1.2, h256', h1, t1, bd_so, gd_in (by decide) o.1.1 o.1.2, h256', h1, t2, bd_so, gd_in (by decide) o.1.1 o.1.2, gd_in (by decide) o.2.2.1.1 o.2.2.1.2, rare_s, h256', h256', h1, h3]
/-- what a call gives -/
def callC (e : EV) (rk : Nat) (g p q : Int32) (ρ0 : List Int32) (r want : Int32) : Prop := (0 ≤ want ∧ okr ρ0 r want (sI (eσ e) 261 g) ∧ lo e rk g p q (ρ0 ++ rng r want) (-1)) ∨ (want = -1 ∧ okr ρ0 r 100 (sI (eσ e) 261 g) ∧ lo e rk g p q ρ0 r)
theorem callC_ct {e : EV} {rk : Nat} {g p q : Int32} {ρ0 : List Int32} {r want : Int32} (hk : rk ≤ 2000000) (L : callC e rk g p q ρ0 r want) : ctS (eS e) (sI (eσ e) 261 g) g p q ρ0 0 r want want 0 := by
  rcases L with ⟨a, b, c⟩ | ⟨a, b, c⟩
  · exact .inl ⟨rfl, rfl, rfl, a, b, lo_S hk c⟩
  · exact .inr (.inl ⟨rfl, rfl, a, a, b, lo_S hk c⟩)
theorem cl_1 {P nn : Int32} : P + (nn + 1) = P + nn + 1 ∧ P + nn + 1 - nn - 1 = P := ⟨by lia, by lia⟩
theorem cl_2 {k nn : Int32} (k0 : 0 ≤ k) (k1 : k < nn) (n1 : nn ≤ 145) : 0 ≤ k + 1 ∧ k + 1 < nn + 1 := ⟨by lia, by lia⟩
theorem cl_3 {r k : Int32} : r + (k + 1) = r + 1 + k := by lia
theorem cl_4 {nn : Int32} (n0 : 0 ≤ nn) (n1 : nn ≤ 145) : 0 ≤ nn + 1 ∧ nn + 1 ≤ 5000 ∧ 0 < nn + 1 := ⟨by lia, by lia, by lia⟩
theorem cl_5 {r : Int32} (r0 : 0 ≤ r) (r1 : r ≤ 2500) : 0 ≤ r + 1 ∧ r + 1 ≤ 3000 := ⟨by lia, by lia⟩
theorem ga_nn' {r k nn : Int32} (r0 : 0 ≤ r) (r1 : r ≤ 2500) (k0 : 0 ≤ k) (k1 : k < nn + 1) (n1 : nn ≤ 145) : 0 ≤ r + k := by lia
/-- CALL -/
theorem r_call {e : EV} {w : WD} {xf : Int32 → List Int32} {c d : Int32} {rest : PL2} {f : Int32} {fl : List Int32} {g p q F n : Int32} {σ μ : mS} {M rk : Nat} {ρ0 : List Int32} {r nn want : Int32} (C : CXT e M F n rk) (hk : rk ≤ 2000000) (A : PT e w xf c d rest f fl (ρ0 ++ rng r (nn + 1)) (-1) g p q F n σ μ) (z : eZ e rk g p q (ρ0 ++ rng r (nn + 1)) (-1)) (ho : opx e p 24) (ha : acm e q 32) (ln : lin e p q) (h1 : nx e (p + 1) = r) (h2 : nx e (p + 2) = nn) (h3 : nx e (p + 3) = want) (hn : sI (eμ e) 71 q = nn) (hw : sI (eμ e) 72 q = want) (h73 : sI (eμ e) 73 q ≠ 1) (r0 : 0 ≤ r) (r1 : r ≤ 2500) (n0 : 0 ≤ nn) (n1 : nn ≤ 145) (V : lvS e g ρ0 r) (L : callC e rk g (p + 4) (q + 1) ρ0 r want) : Good e (M + 3000) σ μ := by
  obtain ⟨E, hM, Z, _, _, G, _, _⟩ := id C
  have hx := PT_x A ho (fun s => rfl)
  have S := PT_s A 4
  have LL := PT_LE (k := 0) A ho ln 4
  have o := ops_1 ho.1.1 ho.1.2
  have hm := act_f A ha
  have iq := (act_k A ha).1
  have k73 := (aP_70 S.1 q).2
  rw [af_32, act_g A ha, mf_32, act_b, hn, hw, iq, gd_tt, k73, if_neg h73, mm_actMore_488, lt, more_b, show nn + 0 = nn from by lia] at hm
  clear k73
  have h256 := fun i => xP_256 S.1 i
  rw [sf_24c, gd_in (by decide) o.1.1 o.1.2, gd_in (by decide) o.2.1.1 o.2.1.2, h256, h256, h1, h2, xx6_gather, if_pos n0, xx6_gather_b24, lt, lt] at hx
  generalize xP σ f p 4 = τ at hx S LL
  generalize actP μ (n - 1) q = τm at hm S LL
  clear h256
  have zk0 := zk_of Z z
  have hl := zk0.1
  rw [List.length_append] at hl
  have N := (PT_N S.1).2.2.1
  have T := S.1.1.2
  rw [S.1.2.2.2.2.2] at T
  obtain ⟨T1, T2⟩ := TP_1 T
  obtain ⟨_, T4⟩ := RG_app.mp T1
  have c4 := cl_4 n0 n1
  have vv := RG_rng' r0 (Int32.le_trans r1 (by decide)) c4.2.1 T4
  have A2 := PT_take S.1 (j := ρ0.length) (by rw [List.length_append]; omega) rfl
  rw [List.take_left' rfl] at A2
  have top : sF τm 143 = mff τm (n - 1) 3 + Int32.ofNat ρ0.length + nn + 1 := by
    rw [T2, List.length_append, rng_len, ← oN_add, oN_cl' c4.1, ← Int32.add_assoc]
    exact cl_1.1
  generalize eP : mff τm (n - 1) 3 + Int32.ofNat ρ0.length = P at *
  have S2 : ST e w xf c d rest f fl ρ0 (-1) g (p + 4) (q + 1) F n τ (md_pi τm 143 P) := ⟨A2, S.2⟩
  have R9 := (PT_k S.1 zk0).2.2.2.2.1.1
  have hR : ∀ k, 0 ≤ k → k < nn + 1 → r + k < sI τ 349 f := fun k k0 k1 => by
    have m := zk0.2 (r + k) (List.mem_append_right _ (rng_in k0 k1))
    rw [dc_p (ga_nn' r0 r1 k0 k1 n1)] at m
    exact Int32.lt_of_lt_of_le m R9
  have v0 := vv 0 (by decide) c4.2.2
  rw [show r + 0 = r from by lia, show P + 0 = P from by lia] at v0
  have rT := hR 0 (by decide) c4.2.2
  rw [show r + 0 = r from by lia] at rT
  have c5 := cl_5 r0 r1
  obtain ⟨υ, u1, fr, GG⟩ := call_S (r := r + 1) (md := 0) (rg := r) (wt := want) (wn := want) (th := 0) (live := r) C S2 (by omega) eP.symm LL (LV_S S2 V) n0 n1 c5.1 c5.2 (fun k k0 k1 => by
    have k' := cl_2 k0 k1 n1
    have := hR (k + 1) k'.1 k'.2
    rw [cl_3] at this
    exact this) top v0 (fun k k0 k1 => by
    have k' := cl_2 k0 k1 n1
    have := vv (k + 1) k'.1 k'.2
    rw [cl_3, cl_3] at this
    exact this) (callC_ct hk L)
  rw [u1, bd_so, callK_x S fr ho.1 h1 h3 r0 rT] at hx
  rw [show τm.1 143 = P + nn + 1 from top, cl_1.2] at hm
  exact good_G A hx hm GG
