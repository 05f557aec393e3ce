/-! LAYER 2: functions of the house: status, isyieldable -/
theorem VV_thr {w : WD} {tm : Int32} {vx vm : Int64} (v : VV w 7 vx tm vm) : ∃ a b, vx = Int32.toInt64 a ∧ vm = Int32.toInt64 b ∧ ((a, b) ∈ wC w ∨ (a = 0 ∧ b = 120)) := by
  rcases v with ⟨h, _⟩ | ⟨h, _⟩ | ⟨h, _⟩ | ⟨h, _⟩ | ⟨h, _⟩ | ⟨h, _⟩ | ⟨h, _⟩ | ⟨_, _, h⟩ | ⟨h, _⟩
  case inr.inr.inr.inr.inr.inr.inr.inl => exact h
  all_goals exact absurd h (by decide)
/-- states are alike -/
theorem BC_s2 {S : SR} {w : WD} {xf : Int32 → List Int32} {σ μ : mS} : ∀ {e : Int32 × Int32} {rest : PL2}, BC S w xf σ μ e rest → ∀ p, p ∈ rest → sI σ 323 p.1 = 2 ∧ sI μ 156 p.2 = 2
  | (c, d), [], _, p, hp => absurd hp (by simp)
  | (c, d), e :: rest, h, p, hp => by
    obtain ⟨_, _, _, _, _, _, h7, _, _, h10⟩ := h
    rcases List.mem_cons.mp hp with q | q
    · rw [q]; exact h7
    · exact BC_s2 h10 p q
theorem BC_main {S : SR} {w : WD} {xf : Int32 → List Int32} {σ μ : mS} : ∀ {e : Int32 × Int32} {rest : PL2}, BC S w xf σ μ e rest → e = (0, 120) ∨ (0, 120) ∈ rest
  | (c, d), [], h => by obtain ⟨rfl, rfl, _⟩ := h; exact .inl rfl
  | (c, d), e :: rest, h => by
    obtain ⟨_, _, _, _, _, _, _, _, _, h10⟩ := h
    rcases BC_main h10 with q | q
    · rw [q]; exact .inr List.mem_cons_self
    · exact .inr (List.mem_cons_of_mem _ q)
theorem st_2 {L : LQ} {w : WD} {σ μ : mS} (H : LM L w σ μ) {a b : Int32} (h : (a, b) ∈ wC w ∨ (a = 0 ∧ b = 120)) : sI σ 323 a = sI μ 156 b ∧ 0 ≤ sI σ 323 a ∧ sI σ 323 a < 4 := by
  have M := H.1.1
  have CC := M.2.2.2.2.1
  have B := M.2.2.2.2.2.1
  have rn := M.2.2.2.2.2.2.1
  have chn : ∀ p, p ∈ (lc L, ld L) :: lR L → sI σ 323 p.1 = sI μ 156 p.2 ∧ 0 ≤ sI σ 323 p.1 ∧ sI σ 323 p.1 < 4 := fun p hp => by
    rcases List.mem_cons.mp hp with q | q
    · rw [q]
      show sI σ 323 (lc L) = sI μ 156 (ld L) ∧ _
      rw [rn.2.2.1, rn.2.2.2]
      exact ⟨rfl, by decide, by decide⟩
    · obtain ⟨e1, e2⟩ := BC_s2 B p q
      rw [e1, e2]
      exact ⟨rfl, by decide, by decide⟩
  rcases h with h | ⟨rfl, rfl⟩
  · obtain ⟨c1, c2, c3, c4, c5⟩ := CC.1 a b h
    rcases c5 with q | q
    · exact chn (a, b) q
    · refine ⟨c2, ?_⟩
      rcases q with q | q | q
      · rw [q.1]; decide
      · rw [q.1]; decide
      · rw [q.1]; decide
  · exact chn (0, 120) (by
      rcases BC_main B with q | q
      · rw [← q]; exact List.mem_cons_self
      · exact List.mem_cons_of_mem _ q)
theorem gdb1 {α : Type} {k : Option α} : gd (zB (1 : Int32)) k = k := gd_z1
/-- what a coroutine's function of the house answers: it has given at once -/
theorem lib_status {L : LQ} (E : EVok (lE L)) {w : WD} {σ μ : mS} {T : ty_xx6_begin} {a2 a3 a4 : Int32} (H : LC L w 0 σ μ) (hl : lB L = 41) : LO L w (bx (bxx8_coroutines (lNn L) T σ 41 a2 a3 a4) (fun z => some (.ok z.2))) (mm_ofThreads (lNn L) μ 41) ∧ (∀ z, bxx8_coroutines (lNn L) T σ 41 a2 a3 a4 = some (.ok z) → z.1 = 1) := by
  have hl' : (41 : Int32) = Int32.ofNat (lB L) := by rw [hl]; rfl
  have tl := tag_L (N := lNn L) H (i := 1) (by decide)
  have tm := tag_M (N := lNn L) H (i := 1) (by decide) (by decide)
  have t := VV_t (arg_V H (i := 1) (by decide))
  unfold bxx8_coroutines mm_ofThreads
  iterate 3 rw [if_neg (by decide)]
  rw [if_pos rfl]
  iterate 3 rw [if_neg (by decide)]
  rw [if_pos rfl]
  rw [xx8_coroutine, mm_isOf, tl.1, tm.1, bd_so, bd_so]
  dsimp only
  by_cases c : aT σ 1 = 7
  · have v := arg_V' H (i := 1) (by decide) (arg_n H (by rw [c]; decide))
    rw [c] at v
    obtain ⟨a, b, e1, e2, e3⟩ := VV_thr v
    obtain ⟨s1, s2, s3⟩ := st_2 H.1 e3
    obtain ⟨g1, g2, g3, g4, _⟩ := (LC_TS H.1).2.2.2.2.2 a b e3
    have nm := H.1.1.1.2.2.1.2.2.1 (sI σ 323 a).toNatClampNeg (by have := cl_lt' s2 s3; exact this)
    have vs : VV w 4 (Int32.toInt64 (sI σ 518 (sI σ 323 a))) 3 (Int32.toInt64 (sI μ 218 (sI σ 323 a))) := .inr (.inr (.inr (.inr (.inl ⟨rfl, rfl, _, _, rfl, rfl, .inr nm⟩))))
    obtain ⟨τ, τm, b1, b2, b3, _⟩ := give_L (N := lNn L) H (by decide) vs
    rw [if_pos c, if_pos (t.2.2.2.2.2.mp c), tl.2, bd_so, gd_z1, bd_so, bx_so, e1, h_ll]
    dsimp only
    rw [unless_1 (L_227 H), bd_so]
    simp only [sF_fold, L_227 H, if_true]
    rw [tm.2, bd_so, e2, h_ll]
    dsimp only
    rw [gd_in (by decide) g1 g2, gd_in (by decide) g3 g4]
    simp only [sI_fold]
    rw [gd_in (by decide) s2 s3, ← s1, gd_in (by decide) s2 s3, xx8_give, b1, b2, bx_so, bx_so, bd_so, gd_z1, bx_so, mm_ofThreads_202]
    refine ⟨LO_ok b3, fun z hz => ?_⟩
    cases hz; rfl
  · rw [if_neg c, if_neg (fun q => c (t.2.2.2.2.2.mpr q)), bd_bd]
    refine ⟨.inr (OEL_bx (OEL_bx (bad_L E H hl' (fun z => ⟨md_pi z 227 1, ?_, u227⟩)))), fun z hz => ?_⟩
    · simp only [unless_0, bd_so, bx_so, bd_bd, lt, gd_z1, gd_z0, sF_fold, sF_pi, if_true, i10, if_false, ite_true, ite_false, mm_ofThreads_202]
    · cases q : xx8_bad (lNn L) σ 1 with
      | none => rw [q] at hz; exact nomatch hz
      | some y => rw [q] at hz; cases y <;> exact nomatch hz
theorem lib_isy {L : LQ} {w : WD} {σ μ : mS} {T : ty_xx6_begin} {a2 a3 a4 : Int32} (H : LC L w 0 σ μ) : LO L w (bx (bxx8_coroutines (lNn L) T σ 43 a2 a3 a4) (fun z => some (.ok z.2))) (mm_ofThreads (lNn L) μ 43) ∧ (∀ z, bxx8_coroutines (lNn L) T σ 43 a2 a3 a4 = some (.ok z) → z.1 = 1) := by
  have M := H.1.1.1
  have rn := M.2.2.2.2.2.2.1
  have cc := ME_c M
  unfold mm_ofThreads
  iterate 5 rw [if_neg (by decide)]
  rw [if_pos rfl]
  unfold bxx8_coroutines
  rw [if_neg (show ¬ (43 : Int32) = 38 by decide), if_neg (show ¬ (43 : Int32) = 39 by decide), if_neg (show ¬ (43 : Int32) = 40 by decide), if_neg (show ¬ (43 : Int32) = 41 by decide), if_neg (show ¬ (43 : Int32) = 42 by decide), if_pos (show (43 : Int32) = 43 from rfl)]
  simp only [sF_fold, rn.1, rn.2.1]
  by_cases z : lc L = 0
  · obtain ⟨τ, τm, b1, b2, b3⟩ := truth_L (N := lNn L) H (by decide) (r := 0) (.inr rfl)
    rw [if_pos rfl] at b2
    rw [if_pos z, if_pos (cc.2.2.2.2.2.2.mpr z), xx8_coroutines_b208, mm_ofThreads_126, b1, b2, bx_so, bd_so, gd_z1, bx_so, mm_ofThreads_202]
    exact ⟨LO_ok b3, fun z hz => by cases hz; rfl⟩
  · obtain ⟨τ, τm, b1, b2, b3⟩ := truth_L (N := lNn L) H (by decide) (r := 1) (.inl rfl)
    rw [if_neg (show ¬ (1 : Int32) = 0 by decide)] at b2
    rw [if_neg z, if_neg (fun q => z (cc.2.2.2.2.2.2.mp q)), xx8_coroutines_b208, mm_ofThreads_126, b1, b2, bx_so, bd_so, gd_z1, bx_so, mm_ofThreads_202]
    exact ⟨LO_ok b3, fun z hz => by cases hz; rfl⟩
