/-! LAYER 2: step rules: many values into a table -/
theorem items_off {N j : Nat} {z : mS} {a b c d : Int32} (h : sF z 178 ≠ 0) : mm_items_26 N (j + 1) a b c d z = some z := by
  have e : mm_items_86 N b z = some z := by
    rw [mm_items_86, sF_fold, if_neg h, mm_items_103, lt]
    exact congrArg some (pi_smv (show sF z 143 = sF z 143 - 0 from by lia))
  rw [mm_items_26, e]
  split
  · rfl
  · rw [sF_fold, if_neg h]
theorem it_1 {m k n0 B : Int32} (m0 : 0 ≤ m) (m1 : m ≤ 2400) (n1 : n0 ≤ 100) (k0 : 0 ≤ k) (c : k < n0) (B0 : 0 ≤ B) (B1 : B ≤ 480000) : ¬ (m + n0 ≤ m + k) ∧ 0 ≤ m + k ∧ m + k < m + 100 ∧ (B + n0 - n0 + k = B + k) ∧ (0 ≤ B + k ∧ B + k < 500000) ∧ m + k + 1 = m + (k + 1) ∧ 0 ≤ k + 1 ∧ k + 1 ≤ n0 := ⟨by lia, by lia, by lia, by lia, ⟨by lia, by lia⟩, by lia, by lia, by lia⟩
theorem it_2 {a m k : Int32} : a + (m + k) - m = a + k := by lia
theorem items_2 {e : EV} {w : WD} {xf : Int32 → List Int32} {c d : Int32} {rest : PL2} {f : Int32} {fl : List Int32} {ρ : List Int32} {m : Int32} {g p q F n : Int32} {σ μ : mS} (E : EVok e) {r a b n0 B fr0 p1 : Int32} (hp : 0 ≤ p1 ∧ p1 < 339900) (h2 : nx e (p1 + 2) = fr0) (h3 : nx e (p1 + 3) = m) (m0 : 0 ≤ m) (m1 : m ≤ 2400) (mR : m + 100 ≤ sI (eσ e) 261 g) (n1 : n0 ≤ 100) (B0 : 0 ≤ B) (B1 : B ≤ 480000) (r0 : 0 ≤ r) (rR : r < sI (eσ e) 261 g) (hab : (a, b) ∈ wT w) (j : Nat) (k : Int32) (k0 : 0 ≤ k) (k1 : k ≤ n0) (hj : (n0.toInt - k.toInt).toNat < j) : ∀ τ τm, ST e w xf c d rest f fl ρ m g p q F n τ τm → LE τ (mff τm) f (n - 1) → sI τ 354 f = m + n0 → sF τm 143 = B + n0 → xv τ f r = Int32.toInt64 a → (∀ i, 0 ≤ i → i < n0 → VV w (xt τ f (m + i)) (xv τ f (m + i)) (sI τm 141 (B + i)) (sJ τm 142 (B + i))) → (∃ υ υm, xx6_rare_b373 (eN e) j 256 p1 r (m + k) τ = some (.ok υ) ∧ mm_items_26 (eN e) j fr0 n0 b k τm = some (md_pi υm 143 B) ∧ ST e w xf c d rest f fl ρ m g p q F n υ υm ∧ mff υm (n - 1) 3 = mff τm (n - 1) 3) ∨ (∃ υ υm, xx6_rare_b373 (eN e) j 256 p1 r (m + k) τ = some (.error (1101, υ)) ∧ (∀ μ', mm_breakOff (eN e) υm 3 = some μ' → mm_items_26 (eN e) j fr0 n0 b k τm = some μ') ∧ ST e w xf c d rest f fl ρ m g p q F n υ υm ∧ LE υ (mff υm) f (n - 1)) := by
  have o := ops_1 hp.1 hp.2
  have xa : x_aB 3 256 = true := rfl
  have xl : x_ln 256 = 340000 := rfl
  induction j generalizing k with
  | zero => omega
  | succ j ih =>
    intro τ τm S L h354 h143 hv hvv
    have h178 : sF τm 178 = 0 := (PT_0 S.1).2
    have f01 := (PT_N S.1).1
    have e411 : τ.1 411 = f := S.2.2
    have e354 : τ.2.2.1 354 f.toNatClampNeg = m + n0 := h354
    have rd : ∀ t : Int32, τ.2.2.1 256 t.toNatClampNeg = nx e t := fun t => SV_cx (k := 256) (PT_V S.1) (by omega) t
    rw [xx6_rare_b373, mm_items_26, e411, gd_in (by decide) f01.1 f01.2, e354]
    by_cases ck : n0 ≤ k
    · have ek : k = n0 := Int32.le_antisymm k1 ck
      subst ek
      refine .inl ⟨τ, τm, by rw [if_pos (Int32.le_refl _)]; rfl, ?_, S, rfl⟩
      rw [if_pos ck, mm_items_86, sF_fold, if_pos h178, mm_items_103, lt, sF_fold, h143, show B + k - k = B from by lia]
    · have kl : k < n0 := Int32.not_le.mp ck
      obtain ⟨i1, i2, i3, i4, i5, i6, i7, i8⟩ := it_1 (B := B) m0 m1 n1 k0 kl B0 B1
      have rk' : m + k < sI (eσ e) 261 g := Int32.lt_of_lt_of_le i3 mR
      have e143 : τm.1 143 = B + n0 := h143
      have hkk := hvv k k0 kl
      obtain ⟨υ, υm, S3, LL3, fr, frm, ho⟩ := put_S E S L hab (VV_n (w := w) (v := Int32.toInt64 (fr0 + k))) (by decide) hkk
      have e1 : τm.2.2.1 141 (B + k).toNatClampNeg = sI τm 141 (B + k) := rfl
      have e2 : τm.2.2.2 142 (B + k).toNatClampNeg = sJ τm 142 (B + k) := rfl
      rw [if_neg i1, (rd_r S r0 rR).2, bd_so, xa, xl, gd_tt, gd_in (by decide) o.2.1.1 o.2.1.2, gd_tt, gd_in (by decide) o.2.2.1.1 o.2.2.1.2, (rd_r S i2 rk').1, bd_so, (rd_r S i2 rk').2, bd_so, rd, rd, h2, h3, it_2, hv, i32_64, if_neg ck, sF_fold, if_pos h178, e143, i4, gd_in (by decide) i5.1 i5.2, gd_in (by decide) i5.1 i5.2, e1, e2]
      have il := tI_lt.mp kl
      have nn : (k + 1).toInt = k.toInt + 1 := by
        rw [tI_le] at k0
        have z0 : (0 : Int32).toInt = 0 := rfl
        have z1 : (1 : Int32).toInt = 1 := rfl
        have z2 : (100 : Int32).toInt = 100 := rfl
        rw [tI_le] at n1
        rw [tI_add] <;> omega
      rcases ho with ⟨o1, o2⟩ | ⟨o1, o2⟩
      · have ext : xt υ = xt τ := by funext g i; simp only [xt, mf_I fr (k := 347) rfl, mf_I fr (k := 364) rfl]
        have exv : xv υ = xv τ := by funext g i; simp only [xv, mf_I fr (k := 347) rfl, mf_J fr (k := 365) rfl]
        have := ih (k + 1) i7 i8 (by omega) υ υm S3 LL3 ((mf_I fr rfl).trans h354) ((mf_F frm rfl).trans h143) (by rw [exv]; exact hv) (fun i i0 i1 => by rw [ext, exv, mf_I frm (k := 141) rfl, mf_J frm (k := 142) rfl]; exact hvv i i0 i1)
        rw [o1, o2, bx_so, bd_so, lt, lt, i6]
        rcases this with ⟨a1, a2, a3, a4, a5, a6⟩ | this
        · exact .inl ⟨a1, a2, a3, a4, a5, a6.trans (mf_I frm rfl)⟩
        · exact .inr this
      · obtain ⟨j, rfl⟩ : ∃ i, j = i + 1 := ⟨j - 1, by omega⟩
        refine .inr ⟨υ, υm, by rw [o1]; rfl, fun μ' hb => ?_, S3, LL3⟩
        rw [o2, hb, bd_so, bd_so, lt]
        exact items_off (o_breakOff hb)
/-- many values behind the others -/
theorem TP_m {w : WD} {σ μ : mS} {f k : Int32} {ρ : List Int32} {m : Int32} (m0 : 0 ≤ m) (T : TP w σ μ f k ρ m) : ∃ n, 0 ≤ n ∧ n ≤ 100 ∧ RG w σ f (sI μ 141) (sJ μ 142) (mff μ k 3) ρ ∧ RG w σ f (sI μ 141) (sJ μ 142) (mff μ k 3 + Int32.ofNat ρ.length) (rng m n) ∧ sF μ 143 = mff μ k 3 + Int32.ofNat ρ.length + n ∧ sI σ 354 f = m + n ∧ mff μ k 9 = n := by
  rcases T with ⟨h, _⟩ | ⟨h, _⟩ | ⟨_, h⟩
  · rw [h] at m0; exact absurd m0 (by decide)
  · rw [h] at m0; exact absurd m0 (by decide)
  · exact h
/-- they go -/
theorem PT_dm {e : EV} {w : WD} {xf : Int32 → List Int32} {c d : Int32} {rest : PL2} {f : Int32} {fl : List Int32} {ρ : List Int32} {m : Int32} {g p q F n : Int32} {σ μ : mS} (A : PT e w xf c d rest f fl ρ m g p q F n σ μ) (m0 : 0 ≤ m) : PT e w xf c d rest f fl ρ (-1) g p q F n σ (md_pi μ 143 (mff μ (n - 1) 3 + Int32.ofNat ρ.length)) := by
  have T := A.1.2
  rw [A.2.2.2.2.2] at T
  have hq := A.2.2.2.1
  rw [A.2.2.2.2.2] at hq
  obtain ⟨n0, _, _, T1, _⟩ := TP_m m0 T
  have fr : m_fr (fun k => [143].contains k) μ (md_pi μ 143 (mff μ (n - 1) 3 + Int32.ofNat ρ.length)) := mf_pi mf_rfl rfl
  have e3 : mff (md_pi μ 143 (mff μ (n - 1) 3 + Int32.ofNat ρ.length)) (n - 1) 3 = mff μ (n - 1) 3 := mf_I fr rfl
  refine PT_mk A xtc_rfl m143_tc A.2.2.1 ((mf_I fr rfl).trans hq) (.inl ⟨rfl, ?_, ?_⟩)
  · rw [e3]
    exact RG_cg T1 wle_rfl (fun _ _ _ => ⟨rfl, rfl⟩) (fun _ _ => ⟨mf_I fr rfl, mf_J fr rfl⟩)
  · rw [e3]; simp only [sF_pi, sF_pl, sF_ai, sF_al, sG_pi, sG_pl, sG_ai, sG_al, sI_pi, sI_pl, sI_al, sI_ai1, sI_ai2, sJ_pi, sJ_pl, sJ_ai, sJ_al1, sJ_al2, Nat.reduceEqDiff, if_true, if_false, ne_eq, not_false_eq_true, ite_true, ite_false]
/-- APPEND_ALL, ITEMS -/
theorem r_appall {e : EV} {w : WD} {xf : Int32 → List Int32} {c d : Int32} {rest : PL2} {f : Int32} {fl : List Int32} {m g p q F n : Int32} {σ μ : mS} {M rk : Nat} {ρ0 : List Int32} {r : Int32} (C : CXT e M F n rk) (A : PT e w xf c d rest f fl (ρ0 ++ [-20000 - r]) m g p q F n σ μ) (z : eZ e rk g p q (ρ0 ++ [-20000 - r]) m) (m0 : 0 ≤ m) (ho : opx e p 19) (ha : acm e q 21) (ln : lin e p q) (r0 : 0 ≤ r) (r1 : r ≤ 2500) (hr : nx e (p + 1) = r) (hk : nx e (p + 2) = sI (eμ e) 71 q) (hv : nx e (p + 3) = m) (ok : okr (ρ0 ++ [-20000 - r]) m 100 (sI (eσ e) 261 g)) (L : lo e rk g (p + 4) (q + 1) (ρ0 ++ [-20000 - r]) (-1)) : Good e (M + 3000) σ μ := by
  obtain ⟨E, _, Z, _, _, G, _, _⟩ := id C
  have hx := PT_x A ho (fun s => rfl)
  have S := PT_s A 4
  have LL := PT_LE (k := 0) A ho ln 4
  have o := ops_1 ho.1.1 ho.1.2
  have hm := act_f A ha
  rw [af_21, act_g A ha, mf_21, act_b, more_b] at hm
  have h256 := fun i => xP_256 S.1 i
  obtain ⟨k1, xa, xl⟩ := rare_k (N := eN e) (k := 19) ho.1.1 ho.1.2 h256
  rw [sf_19, rare_s, k1, rf_19, xa, xl, gd_tt, gd_in (by decide) o.2.2.1.1 o.2.2.1.2, h256, hv, hr, lt] at hx
  clear k1
  have k01 := (PT_N A).2.1
  generalize xP σ f p 4 = τ at hx S h256 LL
  generalize actP μ (n - 1) q = τm at hm S LL
  have zk0 := zk_of Z z
  have T := S.1.1.2
  rw [S.1.2.2.2.2.2] at T
  obtain ⟨n0, n00, n01, T1, T2, T3, T4, T5⟩ := TP_m m0 T
  have N := (PT_N S.1).2.2.1
  have hl := zk0.1
  rw [List.length_append, List.length_singleton] at hl T2 T3
  have bd0 := tp_1 (n := ρ0.length) (by omega) N.1 N.2
  have bd1 := tp_1 (n := ρ0.length + 1) (by omega) N.1 N.2
  have bl := oN_bd (n := ρ0.length + 1) (by omega)
  have v0 := RG_at T1 (j := ρ0.length) (by simp)
  rw [app_ln] at v0
  have vt := RV_tab v0 r0 r1
  have x5 : xt τ f r = 5 := (VV_t vt.1).2.2.2.1.mpr vt.2
  have vt' := vt.1
  rw [x5] at vt'
  have tb := VV_tb vt'
  have rR : r < sI (eσ e) 261 g := by
    have := zk0.2 (-20000 - r) (by simp)
    rw [dc_tb r0 (by lia)] at this
    exact this
  have R25 := (PT_k S.1 zk0).2.2.2.2.1.2
  have vals := RG_rng' m0 (Int32.le_trans ok.2.1 (by decide)) (Int32.le_trans n01 (by decide)) T2
  have eB : mff τm (n - 1) 3 + Int32.ofNat (ρ0.length + 1) + n0 - n0 - 1 = mff τm (n - 1) 3 + Int32.ofNat ρ0.length := by rw [← b_p1]; lia
  have B1 : mff τm (n - 1) 3 + Int32.ofNat (ρ0.length + 1) ≤ 480000 := by have := N.1; have := N.2; clear T1 T2 vals; lia
  have m24 : m ≤ 2400 := by have := ok.2.2.2.2.1; have := ok.1; have := ok.2.1; clear T1 T2 vals; lia
  have IT := items_2 (E := E) (σ := τ) (μ := τm) (r := r) (a := (xv τ f r).toInt32) (b := (sJ τm 142 (mff τm (n - 1) 3 + Int32.ofNat ρ0.length)).toInt32) (n0 := n0) (B := mff τm (n - 1) 3 + Int32.ofNat (ρ0.length + 1)) (p1 := p) ho.1 rfl hv m0 m24 ok.2.2.2.2.1 n01 bd1.1 B1 r0 rR tb.1 (eN e) 0 (by decide) n00 (by have := C.2.1; have h := tI_le.mp n01; have z2 : (100 : Int32).toInt = 100 := rfl; rw [show (0 : Int32).toInt = 0 from rfl]; omega) τ τm S LL T4 T3 tb.2.1 vals
  have em : mm_items (eN e) τm (n - 1) (sI (eμ e) 71 q) = mm_items_26 (eN e) (eN e) (sI (eμ e) 71 q) n0 (sJ τm 142 (mff τm (n - 1) 3 + Int32.ofNat ρ0.length)).toInt32 0 τm := by
    have e9 : τm.2.2.1 153 (n - 1).toNatClampNeg = n0 := T5
    have e143 : τm.1 143 = mff τm (n - 1) 3 + Int32.ofNat (ρ0.length + 1) + n0 := T3
    rw [mm_items, gd_in (by decide) k01.1 k01.2, e9, lt, e143, eB, gd_in (by decide) bd0.1 (Int32.lt_trans bd0.2.1 (by decide)), lt]
    rfl
  rw [em] at hm
  rw [hk, show m + 0 = m from by lia] at IT
  rcases IT with ⟨υ, υm, i1, i2, S3, ee⟩ | ⟨υ, υm, i1, i2, S3, L3⟩
  · have A3 := PT_dm S3.1 m0
    rw [List.length_append, List.length_singleton] at A3
    rw [ee] at A3
    exact Good_2 A (hx.trans i1) (hm.trans i2) (GK_lo G A3 L)
  · exact good_UO C A hx hm (room_UO (PT_UK S3.1 L3) (h := fun z => z) i1 (fun μ' hb => ⟨μ', i2 μ' hb, mf_rfl⟩)) S.1.2.2.2.2.1 S.1.2.2.2.2.2
