/-! LAYER 2: the system's tables: border -/
theorem ll_inj {a b : Int32} (h : Int32.toInt64 a = Int32.toInt64 b) : a = b := by
  have := congrArg Int64.toInt32 h
  rw [h_ll, h_ll] at this
  exact this
theorem bd44 {σ : mS} {ts fh : List Int32} {es ps hs : Int32 → List Int32} {t b : Int32} (ht : t ∈ ts) (F : FX σ ts es ps) (H : HS σ ts es hs fh) (b0 : 0 ≤ b) (h1 : hl1 σ (es t) (hs t) b 0) (lv : lvn σ (es t) (b + 1)) (hb : b ≤ 44000) : b < 44000 := by
  apply Classical.byContradiction
  intro hc
  have eb : b = 44000 := by lia
  subst eb
  obtain ⟨_, _, _, _, nd, rg, _⟩ := H.1 t ht
  have rng : ∀ i, i < 44001 → (1 : Int32) ≤ Int32.ofNat (i + 1) ∧ Int32.ofNat (i + 1) ≤ 44001 := by
    intro i hi
    rw [tI_le, tI_le, i_int (by omega)]
    exact ⟨by show (1 : Int) ≤ _; omega, by show ((i + 1 : Nat) : Int) ≤ 44001; omega⟩
  have tot : ∀ i, i < 44001 → ∃ j, j < 44000 ∧ ((∃ e, e ∈ es t ∧ sJ σ 213 e = Int32.toInt64 (Int32.ofNat (i + 1)) ∧ j = e.toNatClampNeg) ∨ (∃ x, x ∈ hs t ∧ sI σ 204 x = Int32.ofNat (i + 1) ∧ j = 20000 + x.toNatClampNeg)) := by
    intro i hi
    obtain ⟨r1, r2⟩ := rng i hi
    have cl : ∀ (v M : Int32), 0 ≤ v → v < M → (v.toNatClampNeg : Int) < M.toInt := fun v M v0 v1 => by
      rw [cl_toInt v0]; rw [tI_lt] at v1; exact v1
    by_cases c : lvn σ (es t) (Int32.ofNat (i + 1))
    · obtain ⟨e, e1, e2, e3, e4⟩ := c
      have w := F.1 t ht e e1
      have := cl e 20000 w.1 w.2.1
      have z : (20000 : Int32).toInt = 20000 := rfl
      exact ⟨e.toNatClampNeg, by omega, .inl ⟨e, e1, e3, rfl⟩⟩
    · have k44 : Int32.ofNat (i + 1) ≠ 44001 := fun q => c (by rw [q]; exact lv)
      obtain ⟨x, x1, x2⟩ := h1 _ r1 (by lia) (by lia) c
      have w := rg x x1
      have := cl x 24000 w.1 w.2.1
      have z : (24000 : Int32).toInt = 24000 := rfl
      exact ⟨20000 + x.toNatClampNeg, by omega, .inr ⟨x, x1, x2, rfl⟩⟩
  have : 44001 ≤ 44000 := by
    refine pigeon 44000 44001 (fun i => if h : i < 44001 then (tot i h).choose else 0) (fun i hi => ?_) (fun i j hij hj e => ?_)
    · simp only [dif_pos hi]
      exact (tot i hi).choose_spec.1
    · have hi : i < 44001 := by omega
      simp only [dif_pos hi, dif_pos hj] at e
      have si := (tot i hi).choose_spec.2
      have sj := (tot j hj).choose_spec.2
      rw [e] at si
      have key : Int32.ofNat (i + 1) = Int32.ofNat (j + 1) := by
        rcases si with ⟨a, a1, a2, a3⟩ | ⟨a, a1, a2, a3⟩
        · rcases sj with ⟨c, c1, c2, c3⟩ | ⟨c, c1, c2, c3⟩
          · have w := F.1 t ht a a1
            have w' := F.1 t ht c c1
            have : a = c := cl_inj w.1 w'.1 (by rw [← a3, ← c3])
            subst this
            exact ll_inj (by rw [← a2, ← c2])
          · have w := F.1 t ht a a1
            have q := w.2.1
            rw [tI_lt] at q
            have := cl_toInt w.1
            have z : (20000 : Int32).toInt = 20000 := rfl
            omega
        · rcases sj with ⟨c, c1, c2, c3⟩ | ⟨c, c1, c2, c3⟩
          · have w := F.1 t ht c c1
            have q := w.2.1
            rw [tI_lt] at q
            have := cl_toInt w.1
            have z : (20000 : Int32).toInt = 20000 := rfl
            omega
          · have w := rg a a1
            have w' := rg c c1
            have : a = c := cl_inj w.1 w'.1 (by omega)
            subst this
            rw [← a2, ← c2]
      rw [tI_eq, i_int (by omega), i_int (by omega)] at key
      omega
  omega
theorem ll_add {b : Int32} (h0 : 0 ≤ b) (h1 : b ≤ 44000) : Int32.toInt64 b + 1 = Int32.toInt64 (b + 1) := by
  apply Int64.toInt_inj.mp
  have e : (b + 1).toInt = b.toInt + 1 := by
    rw [tI_le] at h0 h1
    have z : (0 : Int32).toInt = 0 := rfl
    have z2 : (44000 : Int32).toInt = 44000 := rfl
    rw [tI_add] <;> simp only [show (1 : Int32).toInt = 1 from rfl] <;> omega
  rw [Int64.toInt_add, Int32.toInt_toInt64, Int32.toInt_toInt64, e]
  have := tI_rng b
  have z : (1 : Int64).toInt = 1 := rfl
  rw [z]
  exact Int.bmod_eq_of_le (by omega) (by omega)
theorem brd_lp {N : Nat} (hN : BIG ≤ N) {ts fh : List Int32} {es ps hs : Int32 → List Int32} {t : Int32} (ht : t ∈ ts) : ∀ (n : Nat) (b : Int32), 0 ≤ b → b ≤ 44000 → ((44000 : Int32).toInt - b.toInt).toNat < n → ∀ σ : mS, dst σ → FX σ ts es ps → HS σ ts es hs fh → sI σ 201 t = b → hl1 σ (es t) (hs t) b 0 → ∃ τ, xx3_border_b10 N n t σ = some τ ∧ HS τ ts es hs fh ∧ HB τ (es t) (hs t) t ∧ m_fr hV σ τ ∧ (∀ s, 0 ≤ s → s ≠ t → sI τ 201 s = sI σ 201 s) ∧ (∀ x, 0 ≤ x → x ∉ fh → sI τ 204 x = sI σ 204 x) := by
  refine loop_up _ (fun n b b0 b1 ih σ hd F H hb h1 => ?_)
  obtain ⟨t0, t1, _⟩ := H.1 t ht
  obtain ⟨r, l1, l2⟩ := live3_x hN hd F ht (k := b + 1)
  have pre : xx3_border_b10 N (n + 1) t σ = bd (xx3_live N σ t 3 (Int32.toInt64 (b + 1))) (fun z2 => if z2.1 = -1 then xx3_border_b91 N z2.2 else gd (inB t 3000) (gd (inB t 3000) (lt (md_ai z2.2 201 t.toNatClampNeg ((sI z2.2 201 t) + 1)) (fun σ3 => xx3_border_b10 N n t σ3)))) := by
    rw [xx3_border_b10, ← ll_add b0 b1]
    simp (disch := lia) only [gd_in, sI_fold, hb]
  rw [l1] at pre
  rcases l2 with ⟨l2, l3, l4⟩ | ⟨l2, l3⟩
  · have lt44 := bd44 ht F H b0 h1 l4 b1
    have rn : r ≠ -1 := by lia
    have H' : HS (md_ai σ 201 t.toNatClampNeg (b + 1)) ts es hs fh := HS_b H
    have fr : m_fr hV σ (md_ai σ 201 t.toNatClampNeg (b + 1)) := mf_ai mf_rfl rfl
    have lv : ∀ k, lvn (md_ai σ 201 t.toNatClampNeg (b + 1)) (es t) k ↔ lvn σ (es t) k := fun k => mf_lvn fr rfl rfl rfl
    obtain ⟨τ, q1, q2, q3, q4, q5⟩ := ih lt44 (md_ai σ 201 t.toNatClampNeg (b + 1)) ((mf_FX fr ⟨rfl, rfl, rfl, rfl, rfl, rfl⟩).2.2 hd) (mf_FX2 fr ⟨rfl, rfl, rfl, rfl, rfl, rfl⟩ ⟨rfl, rfl, rfl, rfl, rfl⟩ F) H' (by rw [sI_ai2]) (fun k k0 k1 k2 q => by
      rw [lv] at q
      by_cases c : k = b + 1
      · subst c; exact absurd l4 q
      · obtain ⟨x, x1, x2⟩ := h1 k k0 (by lia) k2 q
        exact ⟨x, x1, by rw [sI_ai1 (by decide)]; exact x2⟩)
    refine ⟨τ, ?_, q2, q3, mf_tr fr q4, fun s s0 s1 => by rw [q5.1 s s0 s1, sI_ai t0 s0, if_neg (fun q => s1 q.2)], fun x x0 x1 => by rw [q5.2 x x0 x1, sI_ai1 (by decide)]⟩
    rw [pre]
    simp only [bd, if_neg rn, hb]
    rw [gd_in (by decide) t0 t1, gd_in (by decide) t0 t1]
    exact q1
  · refine ⟨σ, ?_, H, ⟨by rw [hb]; exact b0, by rw [hb]; exact b1, by rw [hb]; exact h1, by rw [hb]; exact l3⟩, mf_rfl, fun _ _ _ => rfl, fun _ _ _ => rfl⟩
    rw [pre]
    simp only [bd, if_pos l2, xx3_border_b91]
theorem border_x {N : Nat} (hN : BIG ≤ N) {σ : mS} {ts fh : List Int32} {es ps hs : Int32 → List Int32} {t e key tag : Int32} (ht : t ∈ ts) (hd : dst σ) (F : FX σ ts es ps) (H : HS σ ts es hs fh) (b0 : 0 ≤ sI σ 201 t) (b1 : sI σ 201 t ≤ 44000) (h1 : hl1 σ (es t) (hs t) (sI σ 201 t) key) (h2 : sI σ 201 t + 1 ≠ key → ¬ lvn σ (es t) (sI σ 201 t + 1)) (k1 : 1 ≤ key) (k2 : key ≤ sI σ 201 t + 1) (he : e ∈ es t) (e3 : sI σ 212 e = 3) (ek : sJ σ 213 e = Int32.toInt64 key) (et : tag = 0 ↔ sI σ 214 e = 0) : ∃ τ h' fh', xx3_border N σ t e key tag = some τ ∧ HS τ ts es (fU hs t h') fh' ∧ HB τ (es t) h' t ∧ m_fr hV σ τ ∧ (∀ s, 0 ≤ s → s ≠ t → sI τ 201 s = sI σ 201 s) ∧ (∀ x, 0 ≤ x → x ∉ fh → sI τ 204 x = sI σ 204 x) := by
  obtain ⟨t0, t1, _⟩ := H.1 t ht
  obtain ⟨e0, e1, _, _⟩ := F.1 t ht e he
  generalize hb : sI σ 201 t = b at *
  have uniq : ∀ y, y ∈ es t → sI σ 212 y = 3 → sJ σ 213 y = Int32.toInt64 key → y = e := fun y y1 y2 y3 => F.2.2 t ht y e y1 he (by rw [y2, y3, e3, ek]; exact keq_rfl)
  have dead : tag = 0 → ¬ lvn σ (es t) key := fun h0 ⟨y, y1, y2, y3, y4⟩ => y4 (by rw [uniq y y1 y2 y3]; exact et.mp h0)
  have alive : tag ≠ 0 → lvn σ (es t) key := fun h0 => ⟨e, he, e3, ek, fun q => h0 (et.mpr q)⟩
  by_cases c : key ≤ b
  · have h2' : ¬ lvn σ (es t) (b + 1) := h2 (by lia)
    by_cases d : tag = 0
    · by_cases f : key = b
      · subst f
        refine ⟨md_ai σ 201 t.toNatClampNeg (key - 1), hs t, fh, ?_, by rw [fU_id]; exact HS_b H, ?_, mf_ai mf_rfl rfl, fun s s0 s1 => by rw [sI_ai t0 s0, if_neg (fun q => s1 q.2)], fun x _ _ => by rw [sI_ai1 (by decide)]⟩
        · clear h1 h2 h2' F H uniq dead alive
          simp (disch := lia) only [xx3_border, xx3_border_b91, lt, gd_in, if_pos, if_neg, ↓reduceIte, gd_z0, gd_z1, gd_tt, sF_fold, sG_fold, sI_fold, sJ_fold, hb, d]
        · have lv : ∀ k, lvn (md_ai σ 201 t.toNatClampNeg (key - 1)) (es t) k ↔ lvn σ (es t) k := fun k => mf_lvn (mf_ai mf_rfl rfl : m_fr hV σ _) rfl rfl rfl
          refine ⟨by rw [sI_ai2]; lia, by rw [sI_ai2]; lia, ?_, ?_⟩
          · rw [sI_ai2]
            intro k q0 q1 _ q
            rw [lv] at q
            obtain ⟨x, x1, x2⟩ := h1 k q0 (by lia) (by lia) q
            exact ⟨x, x1, by rw [sI_ai1 (by decide)]; exact x2⟩
          · rw [sI_ai2, lv, show key - 1 + 1 = key by lia]
            exact dead d
      · by_cases g : sI σ 208 e = 0
        · obtain ⟨τ, h', fh', q1, q2, q3, q4, q5⟩ := hole_x hN ht hd F H (by rw [hb]; exact b0) (by rw [hb]; exact b1) (by rw [hb]; exact h1) (by rw [hb]; exact h2') k1 (dead d) he e3 ek
          refine ⟨τ, h', fh', ?_, q2, q3, q4, q5⟩
          have pre : xx3_border N σ t e key tag = bd (xx3_hole N σ t e key) (fun z1 => xx3_border_b91 N z1) := by
            clear h1 h2 h2' F H uniq dead alive q1 q2 q3 q4 q5
            simp (disch := lia) only [xx3_border, xx3_border_b70, gd_in, if_pos, if_neg, sI_fold, hb, d, g]
          rw [pre, q1]
          rfl
        · obtain ⟨w1, x, w2, w3⟩ := (H.1 t ht).2.2.2.2.2.2 e he g
          refine ⟨σ, hs t, fh, ?_, by rw [fU_id]; exact H, ⟨by rw [hb]; exact b0, by rw [hb]; exact b1, ?_, by rw [hb]; exact h2'⟩, mf_rfl, fun _ _ _ => rfl, fun _ _ _ => rfl⟩
          · clear h1 h2 h2' F H uniq dead alive w3
            simp (disch := lia) only [xx3_border, xx3_border_b70, xx3_border_b91, lt, gd_in, if_pos, if_neg, ↓reduceIte, gd_z0, gd_z1, gd_tt, sF_fold, sG_fold, sI_fold, sJ_fold, hb, d, g]
          · rw [hb]
            intro k q0 q1 _ q
            by_cases z : k = key
            · subst z
              exact ⟨x, w2, ll_inj (by rw [← w3, ek])⟩
            · exact h1 k q0 q1 z q
    · refine ⟨σ, hs t, fh, ?_, by rw [fU_id]; exact H, ⟨by rw [hb]; exact b0, by rw [hb]; exact b1, ?_, by rw [hb]; exact h2'⟩, mf_rfl, fun _ _ _ => rfl, fun _ _ _ => rfl⟩
      · clear h1 h2 h2' F H uniq dead alive
        simp (disch := lia) only [xx3_border, xx3_border_b70, xx3_border_b91, lt, gd_in, if_pos, if_neg, ↓reduceIte, gd_z0, gd_z1, gd_tt, sF_fold, sG_fold, sI_fold, sJ_fold, hb, d]
      · rw [hb]
        intro k q0 q1 _ q
        by_cases z : k = key
        · subst z; exact absurd (alive d) q
        · exact h1 k q0 q1 z q
  · have kb : key = b + 1 := by lia
    obtain ⟨τ, q1, q2, q3, q4, q5⟩ := brd_lp hN ht N b b0 b1 (big_d hN) σ hd F H hb (fun k k0 k1' _ q => h1 k k0 k1' (by lia) q)
    refine ⟨τ, hs t, fh, ?_, by rw [fU_id]; exact q2, q3, q4, q5⟩
    have pre : xx3_border N σ t e key tag = xx3_border_b10 N N t σ := by
      clear h1 h2 F H uniq dead alive q1 q2 q3 q4 q5
      simp (disch := lia) only [xx3_border, gd_in, if_neg, sI_fold, hb]
    rw [pre]
    exact q1
