/-! LAYER 2: longs as numbers; select -/
theorem L_le {a b : Int64} : a ≤ b ↔ a.toInt ≤ b.toInt := Int64.le_iff_toInt_le
theorem L_lt {a b : Int64} : a < b ↔ a.toInt < b.toInt := Int64.lt_iff_toInt_lt
theorem L_eq {a b : Int64} : a = b ↔ a.toInt = b.toInt := ⟨fun h => by rw [h], fun h => Int64.toInt_inj.mp h⟩
theorem L_64 {a : Int32} : (Int32.toInt64 a).toInt = a.toInt := Int32.toInt_toInt64 a
theorem L_add {a b : Int64} (h0 : -9223372036854775808 ≤ a.toInt + b.toInt) (h1 : a.toInt + b.toInt < 9223372036854775808) : (a + b).toInt = a.toInt + b.toInt := by
  rw [Int64.toInt_add]
  exact Int.bmod_eq_of_le (by omega) (by omega)
theorem L_sub {a b : Int64} (h0 : -9223372036854775808 ≤ a.toInt - b.toInt) (h1 : a.toInt - b.toInt < 9223372036854775808) : (a - b).toInt = a.toInt - b.toInt := by
  rw [Int64.toInt_sub]
  exact Int.bmod_eq_of_le (by omega) (by omega)
/-- a long that an int holds -/
theorem L_of {v : Int64} (h0 : -2147483648 ≤ v.toInt) (h1 : v.toInt < 2147483648) : ∃ a : Int32, v = Int32.toInt64 a ∧ a.toInt = v.toInt := by
  refine ⟨v.toInt32, ?_, ?_⟩
  · rw [L_eq, L_64, Int64.toInt_toInt32]
    exact (Int.bmod_eq_of_le (by omega) (by omega)).symm
  · rw [Int64.toInt_toInt32]
    exact Int.bmod_eq_of_le (by omega) (by omega)
theorem tag_X {P : Nat → Bool} {σ τ : mS} {n i : Int32} {N : Nat} (e : sF σ 399 = n) (n1 : n ≤ 100) (fr : m_fr P σ τ) (p7 : P 397 = false) (p8 : P 398 = false) (p9 : P 399 = false) (i0 : 1 ≤ i) : xx8_tag N τ i = some (aT σ i, τ) ∧ xx8_value N τ i = some (aV σ i, τ) := by
  rw [← aT_fr fr p9 p7, ← aV_fr fr p9 p8]
  have e' : sF τ 399 = n := by rw [mf_F fr p9]; exact e
  simp only [xx8_tag, xx8_tag_b26, xx8_value, xx8_value_b26, aT, aV, sF_fold]
  rw [e']
  by_cases c : n < i
  · rw [if_pos c, if_pos c, if_pos c, if_pos c]; exact ⟨rfl, rfl⟩
  · obtain ⟨c1, c2, c3⟩ := lc_1 c n1 i0
    rw [if_neg c, if_neg c, if_neg c, if_neg c, gd_in (by decide) c1 c2, gd_in (by decide) c1 c2]
    exact ⟨rfl, rfl⟩
theorem tI_s {j n : Int32} (h : j < n) : (j + 1).toInt = j.toInt + 1 := by
  have z : (1 : Int32).toInt = 1 := rfl
  have := tI_rng j
  have := tI_rng n
  rw [tI_lt] at h
  rw [tI_add] <;> omega
theorem sl_1 {k j n : Int32} (k0 : 1 ≤ k) (j0 : 0 ≤ j) (n1 : n ≤ 100) (h : k + j ≤ n) (kj : k + j ≤ 101) (k1 : k ≤ 101) (j1 : j ≤ 101) : j < 100 ∧ 1 ≤ k + j + 1 ∧ k + j + 1 = 1 + k + j ∧ k + (j + 1) = k + j + 1 ∧ k + j + 1 ≤ 101 ∧ j + 1 ≤ 101 ∧ 0 ≤ j + 1 ∧ k + j < n + 1 ∧ n < 101 ∧ k + j < 101 := ⟨by lia, by lia, by lia, by lia, by lia, by lia, by lia, by lia, by lia, by lia⟩
/-- select gives the arguments behind -/
theorem sel_lp {N : Nat} {L : LQ} {w : WD} {σ μ : mS} (H : LC L w 0 σ μ) {k n : Int32} (k0 : 1 ≤ k) (k1 : k ≤ 101) (hn : n = ln L - 1) (l1 : 1 ≤ ln L) : ∀ (m : Nat) (j : Int32) (τ : mS), 0 ≤ j → k + j ≤ n + 1 → j ≤ 101 → k + j ≤ 101 → (n.toInt - (k + j).toInt + 1).toNat < m → m_fr vK σ τ → GVp w σ μ k j τ → ∃ υ, xx8_select_b124 N m n (Int32.toInt64 (k + j)) τ = some (.ok υ) ∧ m_fr vK σ υ ∧ GVp w σ μ k (n + 1 - k) υ := by
  have n1 := H.2.1.2
  have e399 : sF σ 399 = ln L := H.2.1.1.1
  intro m
  induction m with
  | zero => intro j τ _ _ _ _ h; omega
  | succ m ih =>
    intro j τ j0 j1 j2 j3 hm fr hp
    rw [xx8_select_b124]
    by_cases c : n < k + j
    · have ej : j = n + 1 - k := by lia
      rw [if_pos (lgc_gt.mpr (lt64.mpr c))]
      exact ⟨τ, rfl, fr, by rw [← ej]; exact hp⟩
    · have c' : k + j ≤ n := by lia
      have nn : n ≤ 100 := by lia
      obtain ⟨s1, s2, s3, s4, s5, s6, s7, s8, s9, s10⟩ := sl_1 k0 j0 nn c' j3 k1 j2
      obtain ⟨tx, tv⟩ := tag_X (N := N) (τ := τ) (i := k + j + 1) e399 n1 fr rfl rfl rfl s2
      have v := arg_V' H (i := k + j + 1) s2 (by lia)
      have t := VV_tag v
      obtain ⟨υ, a1, a2, a3, a4, a5, a6⟩ := give1_x (N := N) (σ := τ) (n := j) (t := aT σ (k + j + 1)) (v := aV σ (k + j + 1)) hp.1 j0 s1 t.1 t.2.1
      rw [if_neg (fun q => c (lt64.mp (lgc_gt.mp q))), h_ll, tx, bd_so]
      dsimp only
      rw [tv, bd_so]
      dsimp only
      rw [xx8_give, a1, bx_so, bx_so, lt]
      have e64 : Int32.toInt64 (k + j) + 1 = Int32.toInt64 (k + (j + 1)) := by
        rw [s4]
        exact ll_add (by lia) (by lia)
      rw [e64]
      have ei := tI_s s10
      have en : (n : Int32).toInt ≤ 100 := by rw [tI_le] at nn; exact nn
      refine ih (j + 1) υ s7 (by rw [s4]; lia) s6 (by rw [s4]; exact s5) ?_ (mf_tr fr a2) ⟨a3, fun i i0 i1 => ?_⟩
      · rw [s4, ei]
        rw [tI_le] at c'
        omega
      · by_cases q : i < j
        · rw [(a4 i i0 q).1, (a4 i i0 q).2]; exact hp.2 i i0 q
        · have : i = j := by lia
          subst this
          rw [a5, a6, s3]
          exact ⟨rfl, rfl⟩
theorem sl_2 {v : Int64} {n : Int32} (n0 : 0 ≤ n) (n1 : n ≤ 100) : (v ≠ 0 → v < 0 → ((1 ≤ Int32.toInt64 n + v + 1) ↔ (Int32.toInt64 (-n) ≤ v)) ∧ (Int32.toInt64 (-n) ≤ v → Int32.toInt64 n + v + 1 ≤ Int32.toInt64 n ∧ ∃ k : Int32, Int32.toInt64 n + v + 1 = Int32.toInt64 k ∧ 1 ≤ k ∧ k ≤ n)) := by
  intro h0 h1
  rw [tI_le] at n0 n1
  have z0 : (0 : Int32).toInt = 0 := rfl
  have z1 : (100 : Int32).toInt = 100 := rfl
  have y0 : (0 : Int64).toInt = 0 := rfl
  have y1 : (1 : Int64).toInt = 1 := rfl
  rw [L_lt, y0] at h1
  have r := l_rng v
  have en : (Int32.toInt64 n).toInt = n.toInt := L_64
  have em : (Int32.toInt64 (-n)).toInt = -n.toInt := by
    rw [L_64, Int32.toInt_neg]
    exact Int.bmod_eq_of_le (by omega) (by omega)
  have a1 : (Int32.toInt64 n + v).toInt = n.toInt + v.toInt := by rw [L_add] <;> omega
  have a2 : (Int32.toInt64 n + v + 1).toInt = n.toInt + v.toInt + 1 := by rw [L_add, a1, y1] <;> omega
  rw [L_le, a2, y1, L_le, em, L_le, a2, en]
  refine ⟨by omega, fun h => ⟨by omega, ?_⟩⟩
  obtain ⟨k, k1, k2⟩ := L_of (v := Int32.toInt64 n + v + 1) (by omega) (by omega)
  refine ⟨k, k1, ?_, ?_⟩
  · rw [tI_le, show (1 : Int32).toInt = 1 from rfl]; omega
  · rw [tI_le]; omega
theorem L_sb {a b : Int32} (a0 : -1000000 ≤ a) (a1 : a ≤ 1000000) (b0 : -1000000 ≤ b) (b1 : b ≤ 1000000) : Int32.toInt64 a - Int32.toInt64 b = Int32.toInt64 (a - b) ∧ Int32.toInt64 a + Int32.toInt64 b = Int32.toInt64 (a + b) := by
  rw [tI_le] at a0 a1 b0 b1
  rw [show (-1000000 : Int32).toInt = -1000000 from rfl] at a0 b0
  rw [show (1000000 : Int32).toInt = 1000000 from rfl] at a1 b1
  constructor
  · rw [L_eq, L_64, L_sub (by rw [L_64, L_64]; omega) (by rw [L_64, L_64]; omega), L_64, L_64, tI_sub (by omega) (by omega)]
  · rw [L_eq, L_64, L_add (by rw [L_64, L_64]; omega) (by rw [L_64, L_64]; omega), L_64, L_64, tI_add (by omega) (by omega)]
theorem N_suc {L : LQ} (E : EVok (lE L)) : ∃ nn, lNn L = nn + 1 := by
  have h1 : 0 < BIG := by decide
  have h2 : BIG ≤ lNn L := EV_N E
  exact ⟨lNn L - 1, by omega⟩
theorem lib_select {L : LQ} (E : EVok (lE L)) {w : WD} {σ μ : mS} (H : LC L w 0 σ μ) (hl : lB L = 7) : LO L w (xx8_select (lNn L) σ) (mm_select (lNn L) μ 7) := by
  have hl' : (7 : Int32) = Int32.ofNat (lB L) := by rw [hl]; rfl
  have n1 := H.2.1.2
  have n0 := H.2.1.1.2.1
  have e399 : sF σ 399 = ln L := H.2.1.1.1
  have e222 : sF μ 222 = ln L := H.2.2.1.2.2.2.1
  have e221 : sF μ 221 = (lT L).2.2.2.1 := H.2.2.1.2.2.1
  have t := VV_t (arg_V H (i := 1) (by decide))
  have tl := tag_L (N := lNn L) H (i := 1) (by decide)
  have tm := tag_M (N := lNn L) H (i := 1) (by decide) (by decide)
  -- the rest
  have rest : LO L w (xx8_select_b67 (lNn L) σ) (mm_select_55 (lNn L) 7 (ln L - 1) μ) := by
    unfold xx8_select_b67 mm_select_55
    refine (num_L E H (i := 1) (by decide) (by decide) hl' (fun z => ⟨md_pi z 227 1, ?_, u227⟩)).elim (fun ⟨c1, c2, c3, c4, c5⟩ => ?_) (fun o => .inr o)
    · simp only [unless_0, bd_so, bx_so, bd_bd, lt, gd_z1, gd_z0, sF_fold, sF_pi, if_true, i10, if_false, ite_true, ite_false]
    have nl : ¬ ln L < 1 := arg_n H (by rw [c1]; decide)
    have l1 : 1 ≤ ln L := by lia
    have o0 : 0 ≤ ln L - 1 := by lia
    have o1 : ln L - 1 ≤ 100 := by lia
    rw [c4, c5, bx_so, bd_so]
    dsimp only
    rw [unless_1 (L_227 H), bd_so]
    simp only [sF_fold, L_227 H, if_true, e399]
    rw [tm.2, bd_so, lt]
    dsimp only
    have badd : LO L w (xx8_select_b114 (lNn L) σ) (mm_select_94 (lNn L) 7 μ) := by
      unfold xx8_select_b114 mm_select_94
      refine .inr (bad_L E H hl' (fun z => ⟨md_pi z 227 1, ?_, u227⟩))
      simp only [unless_0, bd_so, bx_so, bd_bd, lt, gd_z1, gd_z0, sF_fold, sF_pi, if_true, i10, if_false, ite_true, ite_false]
    -- values from k on
    have giv : ∀ k : Int32, 1 ≤ k → (k ≤ 101) → LO L w (xx8_select_b124 (lNn L) (lNn L) (ln L - 1) (Int32.toInt64 k) σ) (mm_select_122 (lNn L) (ln L - 1) (Int32.toInt64 k) μ) := fun k k0 k1 => by
      unfold mm_select_122
      by_cases q : ln L - 1 < k
      · rw [if_pos (lgc_gt.mpr (lt64.mpr q))]
        obtain ⟨nn, hnn⟩ := N_suc E
        have b : xx8_select_b124 (lNn L) (lNn L) (ln L - 1) (Int32.toInt64 k) σ = some (.ok σ) := by
          conv => lhs; arg 2; rw [hnn]
          rw [xx8_select_b124, if_pos (lgc_gt.mpr (lt64.mpr q))]
        rw [b]
        exact LO_ok H
      · rw [if_neg (fun p => q (lt64.mp (lgc_gt.mp p)))]
        have q' : k ≤ ln L - 1 := by lia
        obtain ⟨υ, b1, b2, b3⟩ := sel_lp (N := lNn L) H k0 k1 rfl l1 (lNn L) 0 σ (by decide) (by lia) (by decide) (by lia) (by
          have hb : BIG ≤ lNn L := EV_N E
          have : BIG = 8589934592 := rfl
          have r1 := tI_rng (ln L - 1)
          have r2 := tI_rng (k + 0)
          omega) mf_rfl ⟨H.2.2.2.1.1, fun i i0 i1 => by exfalso; lia⟩
        have ek : k + 0 = k := by lia
        rw [ek] at b1
        obtain ⟨τm, d1, d2, d3, d4⟩ := gat_L (EV_N E) H (k := k) (n := ln L - 1 + 1 - k) (by lia) (by lia) (by lia) (by lia) (by lia)
        have es : (Int64.toInt32 (Int32.toInt64 (ln L - 1) - Int32.toInt64 k)) + 1 = ln L - 1 + 1 - k := by
          have : Int32.toInt64 (ln L - 1) - Int32.toInt64 k = Int32.toInt64 (ln L - 1 - k) := (L_sb (by lia) (by lia) (by lia) (by lia)).1
          rw [this, h_ll]; lia
        rw [h_ll, es, sF_fold]
        have d1' : mm_gather (lNn L) μ (sF μ 221 + 1 + k) (ln L - 1 + 1 - k) = some τm := d1
        rw [d1', b1, bd_so]
        refine LO_ok (LC_gv H b2 d2 (GV_of b3.1 d3 (by lia) (by lia) (fun i i0 i1 => ?_)) (by lia))
        have := arg_V' H (i := 1 + k + i) (by lia) (by lia)
        rw [(b3.2 i i0 i1).1, (b3.2 i i0 i1).2, (d4 i i0 i1).1, (d4 i i0 i1).2]
        exact this
    by_cases z : bV μ 1 = 0
    · rw [if_pos (lgc_eq.mpr z), if_pos (lgc_ge.mpr (by rw [z]; decide))]
      unfold xx8_select_b99
      rw [if_pos (lgc_eq.mpr z)]
      exact badd
    · rw [if_neg (fun q => z (lgc_eq.mp q))]
      by_cases y : 0 ≤ bV μ 1
      · have yn : Int32.toInt64 (-(ln L - 1)) ≤ bV μ 1 := by
          rw [L_le] at y ⊢
          rw [L_64, Int32.toInt_neg]
          have : (0 : Int64).toInt = 0 := rfl
          rw [tI_le] at o0 o1
          have z0 : (0 : Int32).toInt = 0 := rfl
          have z1 : (100 : Int32).toInt = 100 := rfl
          rw [Int.bmod_eq_of_le (by omega) (by omega)]
          omega
        have y1 : 1 ≤ bV μ 1 := by
          rw [L_le] at y ⊢
          have e0 : (0 : Int64).toInt = 0 := rfl
          have e1 : (1 : Int64).toInt = 1 := rfl
          have : (bV μ 1).toInt ≠ 0 := fun q => z (L_eq.mpr (by rw [q]; rfl))
          omega
        rw [if_pos (lgc_ge.mpr y), if_pos (lgc_ge.mpr yn), if_pos (lgc_ge.mpr y)]
        unfold xx8_select_b99
        rw [if_neg (fun q => z (lgc_eq.mp q)), if_pos (lgc_ge.mpr y1)]
        by_cases big : bV μ 1 ≤ 101
        · have y' := y
          have big' := big
          rw [L_le, show (0 : Int64).toInt = 0 from rfl] at y'
          rw [L_le, show (101 : Int64).toInt = 101 from rfl] at big'
          obtain ⟨k, k1, k2⟩ := L_of (v := bV μ 1) (by omega) (by omega)
          rw [k1]
          refine giv k ?_ ?_
          · rw [k1] at y1
            exact le64.mp y1
          · rw [k1] at big
            exact le64.mp big
        · have gtn : Int32.toInt64 (ln L - 1) < bV μ 1 := by
            rw [L_lt, L_64]
            rw [L_le] at big
            have e1 : (101 : Int64).toInt = 101 := rfl
            rw [tI_le] at o1
            have z1 : (100 : Int32).toInt = 100 := rfl
            omega
          unfold mm_select_122
          rw [if_pos (lgc_gt.mpr gtn)]
          obtain ⟨nn, hnn⟩ := N_suc E
          have b : xx8_select_b124 (lNn L) (lNn L) (ln L - 1) (bV μ 1) σ = some (.ok σ) := by
            conv => lhs; arg 2; rw [hnn]
            rw [xx8_select_b124, if_pos (lgc_gt.mpr gtn)]
          rw [b]
          exact LO_ok H
      · have yl : bV μ 1 < 0 := by rw [L_lt]; rw [L_le] at y; omega
        obtain ⟨s1, s2⟩ := sl_2 o0 o1 z yl
        rw [if_neg (fun q => y (lgc_ge.mp q))]
        unfold xx8_select_b99
        rw [if_neg (fun q => z (lgc_eq.mp q))]
        by_cases r : Int32.toInt64 (-(ln L - 1)) ≤ bV μ 1
        · obtain ⟨_, k, k1, k2, k3⟩ := s2 r
          rw [if_pos (lgc_ge.mpr (s1.mpr r)), if_pos (lgc_ge.mpr r), if_neg (fun q => y (lgc_ge.mp q)), k1]
          exact giv k k2 (by lia)
        · rw [if_neg (fun q => r (s1.mp (lgc_ge.mp q))), if_neg (fun q => r (lgc_ge.mp q))]
          exact badd
  unfold xx8_select mm_select
  rw [lt, tl.1, tm.1, bd_so, bd_so]
  simp only [sF_fold, e222]
  by_cases z : aT σ 1 = 4
  · obtain ⟨a, b, e1, e2, e3, e4, e5, e6, e7, e8, e9, e10, e11, e12⟩ := sz_L H (i := 1) (by decide) z
    have nl : ¬ ln L < 1 := arg_n H (by rw [z]; decide)
    rw [if_pos z, if_pos e3, tl.2, tm.2, bd_so, bd_so]
    dsimp only
    rw [e1, e2, h_ll, h_ll, gd_in (show (44000 : Nat) < 2147483648 by decide) e5.1 e5.2, gd_in (show (42000 : Nat) < 2147483648 by decide) e6.1 e6.2, sI_fold, sI_fold, ← e7]
    by_cases y : sI σ 129 a = 1
    · have xa : xx2_at (lNn L) σ a 0 = some (x_by σ a 0, σ) := at_x e10 (by decide) (by simp only [x_sz]; rw [y]; decide)
      have ma : mm_byteOf (lNn L) μ b 0 = some (m_by μ b 0, μ) := byteOf_m e11 (by decide) (by simp only [m_sz]; rw [← e7, y]; decide)
      have eb : x_by σ a 0 = m_by μ b 0 := (H.1.1.1.1.1.2.1.2.2.2.2.2.1 a b e4).2 0 (by decide) (by simp only [x_sz]; rw [y]; decide)
      rw [if_pos y, if_pos y, tl.2, tm.2, bd_so, bd_so]
      dsimp only
      rw [e1, e2, h_ll, h_ll, xa, ma, bd_so, bd_so, eb]
      dsimp only
      by_cases x : m_by μ b 0 = 35
      · have vn : VV w 3 (Int32.toInt64 (ln L) - 1) 2 (Int32.toInt64 (ln L - 1)) := by
          have : Int32.toInt64 (ln L) - 1 = Int32.toInt64 (ln L - 1) := (L_sb (a := ln L) (b := 1) (by lia) (by lia) (by decide) (by decide)).1
          rw [this]
          exact .inr (.inr (.inr (.inl ⟨rfl, rfl, rfl⟩)))
        obtain ⟨τ, τm, b1, b2, b3, _⟩ := give_L (N := lNn L) H (by decide) vn
        rw [if_pos x, if_pos x, e399, xx8_giveNumber, b1, b2, bx_so, bx_so, bd_so]
        exact LO_ok b3
      · rw [if_neg x, if_neg x]
        exact rest
    · rw [if_neg y, if_neg y]
      exact rest
  · rw [if_neg z, if_neg (fun q => z (t.2.2.1.mpr q))]
    exact rest
