/-! LAYER 2: handlers on both sides -/
theorem gt_2 {μ : mS} {a c : Int32} {b d : Int64} : gt (gt μ a b) c d = gt μ c d := by
  simp only [gt, md_pi, md_pl]
  congr 1
  · funext k
    by_cases h : k = 42
    · subst h; simp [upd_at]
    · simp [upd_at, h]
  · congr 1
    funext k
    by_cases h : k = 43
    · subst h; simp [updL_at]
    · simp [updL_at, h]
def hK (k : Nat) : Bool := [42, 43].contains k
theorem gt_fr {μ : mS} {a : Int32} {b : Int64} : m_fr hK μ (gt μ a b) := mf_pl (mf_pi mf_rfl rfl) rfl
theorem RT_rng {w : WD} {σ μ : mS} {es es' : Int32 → List Int32} (R : RT w σ μ es es') {a b : Int32} (h : (a, b) ∈ wT w) : 0 ≤ a ∧ a < 3000 ∧ 0 ≤ b ∧ b < 3000 := by
  obtain ⟨⟨ps, hs, ff, fh, M⟩, _, ⟨ps', MM'⟩, _, _⟩ := R
  have x := M.2.1.1 a (tX_mem h)
  have y := MM'.2.2.2.1 b (tM_mem h)
  exact ⟨x.1, x.2.1, y.1, y.2.1⟩
theorem hK_f {k : Nat} (h : k ≠ 42 ∧ k ≠ 43) : hK k = false := by
  simp only [hK, List.contains_cons, List.contains_nil, Bool.or_eq_false_iff, beq_eq_false_iff_ne]
  (repeat' (first | exact trivial | omega | apply And.intro))
theorem RH_gt {K : Int32 → Int32 → Int32 → Prop} {q : Int} {w : WD} {σ μ : mS} {a : Int32} {b : Int64} (H : RH K q w σ μ) : RH K q w σ (gt μ a b) := RH_fr H (mf_rfl (P := fun _ => false)) gt_fr (fun _ _ _ => rfl) (fun k _ _ _ _ _ c42 c43 _ => hK_f ⟨c42, c43⟩)
/-- what the metatable of a value has under a handler's name -/
theorem handler_2 {N : Nat} (hN : BIG ≤ N) {K : Int32 → Int32 → Int32 → Prop} {q : Int} {w : WD} {σ μ : mS} {tx tm : Int32} {vx vm : Int64} (H : RH K q w σ μ) (O : HO w σ μ) (v : VV w tx vx tm vm) {k : Nat} (hk : k < 21) : ∃ r c d, xx6_handler N σ tx vx (Int32.ofNat k) = some (r, σ) ∧ mm_handler N μ tm vm (sF μ (hnm.getD k 0)) = some (gt μ c d) ∧ ((r = -1 ∧ c = 0 ∧ d = 0) ∨ (0 ≤ r ∧ r < 20000 ∧ sI σ 214 r ≠ 0 ∧ c ≠ 0 ∧ VV w (sI σ 214 r) (sJ σ 215 r) c d)) := by
  obtain ⟨es, es', R⟩ := H.2.2.1
  have kk : 0 ≤ Int32.ofNat k ∧ Int32.ofNat k < 21 := ⟨oN_nn (by omega), by rw [show (21 : Int32) = Int32.ofNat 21 from rfl, oN_lt (by omega) (by omega)]; exact hk⟩
  have nm := O.1 k hk
  -- the metatables
  have mt : ∃ mx my, xx6_metaOf N σ tx vx = some (mx, σ) ∧ mm_handler N μ tm vm (sF μ (hnm.getD k 0)) = mm_handler_28 N (sF μ (hnm.getD k 0)) my μ ∧ ((mx = -1 ∧ my = -1) ∨ (mx, my) ∈ wT w) := by
    rcases v with v | v | v | v | v | ⟨rfl, rfl, a, b, rfl, rfl, p⟩ | v | v | v
    case inr.inr.inr.inr.inl =>
      obtain ⟨rfl, rfl, _⟩ := v
      refine ⟨sF σ 394, sF μ 192, ?_, ?_, .inr O.2.2.2.2.2.2.2.1⟩
      · simp (disch := decide) only [xx6_metaOf, xx6_metaOf_b31, lt, gd_in, if_pos, if_neg, ↓reduceIte, gd_z0, gd_z1, gd_tt, sF_fold, sG_fold, sI_fold, sJ_fold]
      · simp (disch := decide) only [mm_handler, lt, gd_in, if_pos, if_neg, ↓reduceIte, gd_z0, gd_z1, gd_tt, sF_fold, sG_fold, sI_fold, sJ_fold]
    case inr.inr.inr.inr.inr.inl =>
      have rg := RT_rng R p
      have m := (R.2.2.2.2 a b p).2.1
      refine ⟨sI σ 195 a, sI μ 20 b, ?_, ?_, m⟩
      · simp (disch := lia) only [xx6_metaOf, xx6_metaOf_b31, lt, gd_in, if_pos, if_neg, ↓reduceIte, gd_z0, gd_z1, gd_tt, sF_fold, sG_fold, sI_fold, sJ_fold, h_ll]
      · simp (disch := lia) only [mm_handler, lt, gd_in, if_pos, if_neg, ↓reduceIte, gd_z0, gd_z1, gd_tt, sF_fold, sG_fold, sI_fold, sJ_fold, h_ll]
    all_goals
      obtain ⟨rfl, rfl, _⟩ := v
      refine ⟨-1, -1, ?_, ?_, .inl ⟨rfl, rfl⟩⟩
      · simp (disch := decide) only [xx6_metaOf, xx6_metaOf_b31, lt, gd_in, if_pos, if_neg, ↓reduceIte, gd_z0, gd_z1, gd_tt, sF_fold, sG_fold, sI_fold, sJ_fold]
      · simp (disch := decide) only [mm_handler, lt, gd_in, if_pos, if_neg, ↓reduceIte, gd_z0, gd_z1, gd_tt, sF_fold, sG_fold, sI_fold, sJ_fold]
  obtain ⟨mx, my, m1, m2, m3⟩ := mt
  rw [m2]
  have g0 : md_pl (md_pi μ 42 0) 43 0 = gt μ 0 0 := rfl
  rcases m3 with ⟨rfl, rfl⟩ | m3
  · refine ⟨-1, 0, 0, ?_, ?_, .inl ⟨rfl, rfl, rfl⟩⟩
    · simp (disch := decide) only [xx6_handler, xx6_handler_b36, m1, bd, if_pos]
    · simp (disch := decide) only [mm_handler_28, mm_handler_55, lt, if_pos, g0]
  · have rg := RT_rng R m3
    obtain ⟨r, c, d, r1, r2, r3⟩ := live_h hN (RH_gt (a := 0) (b := 0) H) m3 (kx := 4) (vx := Int32.toInt64 (σ.2.2.1 392 k)) (km := 3) (vm := Int32.toInt64 (sF μ (hnm.getD k 0))) (.inr (.inr (.inr (.inr (.inl ⟨rfl, rfl, _, _, rfl, rfl, .inr nm⟩))))) (by decide) (by decide)
    have e392 : sI σ 392 (Int32.ofNat k) = σ.2.2.1 392 k := sI_oN (by omega)
    rw [gt_2] at r2
    refine ⟨r, c, d, ?_, ?_, r3⟩
    · simp (disch := lia) only [xx6_handler, xx6_handler_b36, m1, bd, lt, gd_in, if_pos, if_neg, ↓reduceIte, gd_z0, gd_z1, gd_tt, sF_fold, sG_fold, sI_fold, sJ_fold, e392, r1]
    · simp (disch := lia) only [mm_handler_28, mm_handler_55, lt, if_neg, g0, r2, bd]
