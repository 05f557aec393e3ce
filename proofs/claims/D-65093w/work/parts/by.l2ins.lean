/-! LAYER 2: functions of the house: insert, pack -/
theorem VV_tbl {w : WD} {a b : Int32} (h : (a, b) ∈ wT w) : VV w 5 (Int32.toInt64 a) 4 (Int32.toInt64 b) := .inr (.inr (.inr (.inr (.inr (.inl ⟨rfl, rfl, _, _, rfl, rfl, h⟩)))))
theorem vo_any {N : Nat} {z : mS} {i : Int32} (h : 0 ≤ sF z 221) (h1 : sF z 221 ≤ 470000) (i0 : 1 ≤ i) (i1 : i ≤ 150) : mm_valueOf N z i = some (bV z i, z) := by
  obtain ⟨c1, c2⟩ := lc_2 h h1 i0 i1
  simp only [mm_valueOf, bV, sF_fold]
  rw [gd_in (by decide) c1 c2]; rfl
/-- behind a break-off the reference's loop ends at once -/
theorem ins_off {N : Nat} {z : mS} {b : Int32} {k : Int64} {m : Nat} (h : sF z 178 ≠ 0) (h0 : 0 ≤ sF z 221) (h1 : sF z 221 ≤ 470000) : mm_insert_110 N (m + 1) b k z = some z := by
  rw [mm_insert_110, vo_any h0 h1 (by decide) (by decide), bd_so]
  dsimp only
  have e : mm_insert_164 N b z = some z := by
    rw [mm_insert_164]
    simp only [sF_fold, if_neg h, mm_insert_193]
  simp only [sF_fold, if_neg h, e, ite_self]
theorem ins_lp {L : LQ} (E : EVok (lE L)) {w : WD} {a b : Int32} (h : (a, b) ∈ wT w) {i : Int64} {tx tm : Int32} {vx vm : Int64} (v3 : VV w tx vx tm vm) : ∀ (m : Nat) (k : Int32) (σ μ : mS), 0 ≤ k → k ≤ 20000 → k.toInt.toNat + 2 < m → 1 ≤ i → LC L w 0 σ μ → aT σ 3 = tx → aV σ 3 = vx → bT μ 3 = tm → bV μ 3 = vm → bV μ 2 = i → LO L w (xx8_insert_b110 (lNn L) m a i (Int32.toInt64 k) σ) (mm_insert_110 (lNn L) m b (Int32.toInt64 k) μ) := by
  intro m
  induction m with
  | zero => intro k σ μ _ _ h; omega
  | succ m ih =>
    intro k σ μ k0 k1 hm i1 H e1 e2 e3 e4 e5
    have tl := tag_L (N := lNn L) H (i := 3) (by decide)
    have tm3 := tag_M (N := lNn L) H (i := 3) (by decide) (by decide)
    have tm2 := tag_M (N := lNn L) H (i := 2) (by decide) (by decide)
    have cb := CL_b H.1.1
    have e221 : sF μ 221 = (lT L).2.2.2.1 := H.2.2.1.2.2.1
    have o178 : sF μ 178 = 0 := H.1.1.1.2.2.2.2.2.2.2.2.2.2.2
    rw [xx8_insert_b110, mm_insert_110, tm2.2, bd_so]
    dsimp only
    rw [e5]
    by_cases c : lg_cmp (Int32.toInt64 k) i < 0
    · rw [if_pos c, if_pos c, tl.1, bd_so]
      dsimp only
      rw [tl.2, bd_so]
      dsimp only
      rw [mm_insert_164]
      simp only [sF_fold, o178, if_true]
      rw [tm2.2, bd_so]
      dsimp only
      rw [tm3.1, bd_so]
      dsimp only
      rw [tm3.2, bd_so]
      dsimp only
      rw [e1, e2, e3, e4, e5]
      refine (put_L E H h (VV_n (v := i)) (by decide) v3 (fun z z1 z2 z3 => ?_)).elim (fun ⟨τ, τm, d1, d2, d3, _⟩ => ?_) (fun o => .inr o)
      · exact ⟨z, rfl, mf_rfl⟩
      · rw [d1, d2, bx_so, bd_so]
        exact LO_ok d3
    · rw [if_neg c, if_neg c]
      simp only [sF_fold, o178, if_true]
      obtain ⟨r, t, x, o1, o2, o3, o4⟩ := live_L E H h (VV_n (v := Int32.toInt64 k)) (by decide)
      obtain ⟨m2, rfl⟩ : ∃ m2, m = m2 + 1 := ⟨m - 1, by omega⟩
      have kp : 1 ≤ k := by
        rw [lgc_lt, L_lt, L_64] at c
        rw [L_le, show (1 : Int64).toInt = 1 from rfl] at i1
        rw [tI_le, show (1 : Int32).toInt = 1 from rfl]
        omega
      have ek : Int32.toInt64 k + 1 = Int32.toInt64 (k + 1) := ll_add k0 (by lia)
      have ek2 : Int32.toInt64 k - 1 = Int32.toInt64 (k - 1) := (L_sb (a := k) (b := 1) (by lia) (by lia) (by decide) (by decide)).1
      have kt : (k - 1).toInt = k.toInt - 1 := by
        have := tI_rng k
        rw [tI_le, show (1 : Int32).toInt = 1 from rfl] at kp
        rw [tI_sub] <;> rw [show (1 : Int32).toInt = 1 from rfl] <;> omega
      -- both set the key behind
      have go : ∀ {y : Int32} {u : Int64} {y' : Int32} {u' : Int64}, VV w y u y' u' → (xx8_move (lNn L) σ a (Int32.toInt64 k + 1) (Int32.toInt64 k) = bx (xx3_put (lNn L) σ a 3 (Int32.toInt64 k + 1) y u) (fun z => xx8_move_b79 (lNn L) z)) → y' = t → u' = x → LO L w (bx (xx8_move (lNn L) σ a (Int32.toInt64 k + 1) (Int32.toInt64 k)) (fun z4 => lt (Int32.toInt64 k - 1) (fun x5 => xx8_insert_b110 (lNn L) (m2 + 1) a i x5 z4))) (bd (mm_get (lNn L) μ b 2 (Int32.toInt64 k)) (fun z6 => bd (mm_set (lNn L) z6 b 2 (Int32.toInt64 k + 1) (sF z6 42) (sG z6 43)) (fun z7 => lt (Int32.toInt64 k - 1) (fun x8 => mm_insert_110 (lNn L) (m2 + 1) b x8 z7.2)))) := fun {y u y' u'} vv em ey eu => by
        rw [em, o2, bd_so, gt_42, gt_43, bx_bx, ← ey, ← eu]
        rw [← ey, ← eu] at o3
        refine (put_L E o3 h (VV_n (v := Int32.toInt64 k + 1)) (by decide) vv (fun z z1 z2 z3 => ?_)).elim (fun ⟨τ, τm, d1, d2, d3, d4, d5⟩ => ?_) (fun o => .inr o)
        · refine ⟨z, ?_, mf_rfl⟩
          rw [lt]
          have q : sF z 221 = sF (gt μ y' u') 221 := mf_F z3 rfl
          have q' : sF (gt μ y' u') 221 = sF μ 221 := mf_F (gt_u (μ := μ) (c := y') (d := u')) rfl
          exact ins_off z1 (by rw [q, q', e221]; exact cb.1) (by rw [q, q', e221]; exact cb.2.1)
        · rw [d1, d2, bx_so, bd_so, xx8_move_b79, bx_so, lt, lt, ek2]
          have fa : m_fr pB (gt μ y' u') τm := mf_mono d5 (fun k hk => (Bool.or_eq_false_iff.mp hk).1)
          refine ih (k - 1) τ τm (by lia) (by lia) (by rw [kt]; rw [tI_le, show (1 : Int32).toInt = 1 from rfl] at kp; omega) i1 d3 ?_ ?_ ?_ ?_ ?_
          · rw [aT_fr d4 (ir_f (by omega)) (ir_f (by omega))]; exact e1
          · rw [aV_fr d4 (ir_f (by omega)) (ir_f (by omega))]; exact e2
          · rw [bT_fr d5 (ir_f (by omega)) (ir_f (by omega)) (ir_f (by omega)), bT_fr gt_u rfl rfl rfl]; exact e3
          · rw [bV_fr d5 (ir_f (by omega)) (ir_f (by omega)), bV_fr gt_u rfl rfl]; exact e4
          · rw [bV_fr d5 (ir_f (by omega)) (ir_f (by omega)), bV_fr gt_u rfl rfl]; exact e5
      rcases o4 with ⟨r1, r2, r3⟩ | ⟨r0, r1, r2, r3, r4⟩
      · refine go VV_nil ?_ r2.symm r3.symm
        rw [xx8_move, o1, bd_so]
        dsimp only
        rw [if_pos r1]
      · have rr : ¬ r = -1 := fun q => by rw [q] at r0; exact absurd r0 (by decide)
        refine go r4 ?_ rfl rfl
        rw [xx8_move, o1, bd_so]
        dsimp only
        rw [if_neg rr, gd_in (by decide) r0 r1, gd_in (by decide) r0 r1]
        rfl
theorem lib_insert {L : LQ} (E : EVok (lE L)) {w : WD} {σ μ : mS} (H : LC L w 0 σ μ) (hl : lB L = 27) : LO L w (xx8_insert (lNn L) σ) (mm_ofTables (lNn L) μ 27) := by
  have hl' : (27 : Int32) = Int32.ofNat (lB L) := by rw [hl]; rfl
  unfold xx8_insert mm_ofTables
  rw [if_neg (by decide)]
  refine (tab_L E H (i := 1) (by decide) (by decide) hl' (fun z => ⟨md_pi z 227 1, ?_, u227⟩)).elim (fun ⟨a, b, hab, a1, a2, a3, a4, a5, a6⟩ => ?_) (fun o => .inr o)
  · simp only [unless_0, bd_so, bx_so, bd_bd, lt, gd_z1, gd_z0, sF_fold, sF_pi, if_true, i10, if_false, ite_true, ite_false, mm_ofTables_293]
  have e222 : sF μ 222 = ln L := H.2.2.1.2.2.2.1
  obtain ⟨n, τ, τm, o1, o2, n0, n1, L1, L2, fr, frm⟩ := len_X E H hab
  have e399 : sF τ 399 = ln L := L1.2.1.1.1
  have e222' : sF τm 222 = ln L := L1.2.2.1.2.2.2.1
  rw [a5, a6, bx_so, bd_so]
  dsimp only
  rw [unless_1 (L_227 H), bd_so]
  simp only [sF_fold, L_227 H, if_true]
  rw [(tag_M H (i := 1) (by decide) (by decide)).2, bd_so, lt, a4, h_ll, o1, bd_so, lt]
  dsimp only
  have tl2 := tag_L (N := lNn L) L1 (i := 2) (by decide)
  have tm2 := tag_M (N := lNn L) L1 (i := 2) (by decide) (by decide)
  have em : bd (mm_insert (lNn L) μ b 27) (fun z => mm_ofTables_293 (lNn L) z) = mm_insert (lNn L) μ b 27 := bd_id
  rw [em, mm_insert]
  simp only [sF_fold, e222, e399]
  by_cases c2 : ln L = 2
  · have v2 := arg_V' L1 (i := 2) (by decide) (by lia)
    rw [if_pos c2, if_pos c2, mm_insert_29, o2, bd_so]
    simp only [sF_fold, e222']
    rw [if_pos c2, tl2.1, bd_so]
    dsimp only
    rw [tl2.2, bd_so, tm2.1, bd_so]
    dsimp only
    rw [tm2.2, bd_so]
    dsimp only
    refine (put_L E L1 hab (VV_n (v := Int32.toInt64 n + 1)) (by decide) v2 (fun z z1 z2 z3 => ?_)).elim (fun ⟨υ, υm, d1, d2, d3, _⟩ => ?_) (fun o => .inr o)
    · exact ⟨z, rfl, mf_rfl⟩
    · rw [d1, d2, bx_so, bd_so]
      exact LO_ok d3
  · rw [if_neg c2, if_neg c2]
    by_cases c3 : ln L = 3
    · have v2 := arg_V' L1 (i := 2) (by decide) (by lia)
      have v3 := arg_V' L1 (i := 3) (by decide) (by lia)
      have t2 := VV_t v2
      rw [if_pos c3, if_pos c3, mm_insert_29, o2, bd_so]
      simp only [sF_fold, e222']
      rw [if_neg c2, tm2.1, bd_so, xx8_number, tl2.1, bd_so]
      dsimp only
      have badd : ∀ f : mS → Option (Except (Nat × mS) mS), LO L w (bx (xx8_bad (lNn L) τ 2) (fun z => some (Except.error (z.1, z.2)))) (mm_insert_95 (lNn L) 27 τm) := fun _ => by
        unfold mm_insert_95
        refine .inr (bad_L E L1 hl' (fun z => ⟨md_pi z 227 1, ?_, u227⟩))
        simp only [unless_0, bd_so, bx_so, bd_bd, lt, gd_z1, gd_z0, sF_fold, sF_pi, if_true, i10, if_false, ite_true, ite_false]
      by_cases z : aT τ 2 = 3
      · have e : aV τ 2 = bV τm 2 := by
          rcases v2 with v | v | v | v | v | v | v | v | v
          case inr.inr.inr.inl => exact v.2.2
          all_goals (obtain ⟨q, _⟩ := v; rw [z] at q; exact absurd q (by decide))
        rw [if_pos z, if_pos (t2.2.1.mp z), tl2.2, bd_so, bx_so, tm2.2, bd_so, e]
        dsimp only
        by_cases y : lg_cmp (bV τm 2) 1 < 0
        · rw [if_pos y, if_pos y, xx8_insert_b101]
          exact badd (fun z => some (.ok z))
        · rw [if_neg y, if_neg y, tm2.2, bd_so]
          dsimp only
          by_cases x : lg_cmp (bV τm 2) (Int32.toInt64 n + 1) ≤ 0
          · rw [if_pos x, if_pos x]
            have i1 : 1 ≤ bV τm 2 := by
              rw [L_le]; rw [lgc_lt, L_lt] at y; omega
            have hb : BIG ≤ lNn L := EV_N E
            have hB : BIG = 8589934592 := rfl
            have rn := tI_rng n
            exact ins_lp E hab v3 (lNn L) n τ τm n0 n1 (by omega) i1 L1 rfl rfl rfl rfl rfl
          · rw [if_neg x, if_neg x, xx8_insert_b101]
            exact badd (fun z => some (.ok z))
      · rw [if_neg z, if_neg (fun q => z (t2.2.1.mpr q))]
        unfold mm_insert_95
        refine .inr (OEL_bx (bad_L E L1 hl' (fun z => ⟨md_pi z 227 1, ?_, u227⟩)))
        simp only [unless_0, bd_so, bx_so, bd_bd, lt, gd_z1, gd_z0, sF_fold, sF_pi, if_true, i10, if_false, ite_true, ite_false]
    · rw [if_neg c3, if_neg c3]
      simp only [gd_z1, lt, bd_id]
      exact .inr (fault_L E L2.1 (by decide) (by decide) tx_116 mtl2)
