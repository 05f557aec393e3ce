/-! LAYER 2: functions of the house: remove -/
theorem vK_f {k : Nat} (h : k < 400 ∨ 402 < k) : vK k = false := by
  simp only [vK, List.contains_cons, List.contains_nil, Bool.or_eq_false_iff, beq_eq_false_iff_ne]
  repeat' apply And.intro
  all_goals first | trivial | omega
theorem vM_f {k : Nat} (h : k < 188 ∨ 190 < k) : vM k = false := by
  simp only [vM, List.contains_cons, List.contains_nil, Bool.or_eq_false_iff, beq_eq_false_iff_ne]
  repeat' apply And.intro
  all_goals first | trivial | omega
theorem gt_42' {μ : mS} {c : Int32} {d : Int64} : (gt μ c d).1 42 = c := gt_42
theorem gt_43' {μ : mS} {c : Int32} {d : Int64} : (gt μ c d).2.1 43 = d := gt_43
theorem move_L {L : LQ} (E : EVok (lE L)) {w : WD} {g a b j i : Int32} {es es' : Int32 → List Int32} {σ μ : mS} (H : LC L w g σ μ) (R : RT w σ μ es es') (h : (a, b) ∈ wT w) (f : hKy σ (es a) j) {m1 : mS → Option mS} : ∃ τ τm μ1, xx8_move (lNn L) σ a (Int32.toInt64 j) (Int32.toInt64 i) = some (.ok τ) ∧ bd (mm_get (lNn L) μ b 2 (Int32.toInt64 i)) (fun z2 => bd (mm_set (lNn L) z2 b 2 (Int32.toInt64 j) (sF z2 42) (sG z2 43)) (fun z3 => m1 z3.2)) = m1 τm ∧ m_fr uM μ μ1 ∧ LC L w g τ τm ∧ RT w τ τm es es' ∧ m_fr qX σ τ ∧ m_fr mZ μ1 τm ∧ (∀ i, hKy σ (es a) i → hKy τ (es a) i) := by
  obtain ⟨r, c, d, r1, r2, r3, r4⟩ := live_L E H h (VV_n (v := Int32.toInt64 i)) (by decide)
  have R1 : RT w σ (gt μ c d) es es' := RT_fr R wle_rfl rfl mf_rfl (gt_u (μ := μ) (c := c) (d := d)) (fun k _ => rfl) (fun k hk => uM_f (by omega))
  have fin : ∀ (y : Int32) (u : Int64), VV w y u c d → xx8_move (lNn L) σ a (Int32.toInt64 j) (Int32.toInt64 i) = bx (xx3_put (lNn L) σ a 3 (Int32.toInt64 j) y u) (fun z => xx8_move_b79 (lNn L) z) → ∃ τ τm μ1, xx8_move (lNn L) σ a (Int32.toInt64 j) (Int32.toInt64 i) = some (.ok τ) ∧ bd (mm_get (lNn L) μ b 2 (Int32.toInt64 i)) (fun z2 => bd (mm_set (lNn L) z2 b 2 (Int32.toInt64 j) (sF z2 42) (sG z2 43)) (fun z3 => m1 z3.2)) = m1 τm ∧ m_fr uM μ μ1 ∧ LC L w g τ τm ∧ RT w τ τm es es' ∧ m_fr qX σ τ ∧ m_fr mZ μ1 τm ∧ (∀ i, hKy σ (es a) i → hKy τ (es a) i) := fun y u vv em => by
    obtain ⟨τ, τm, o1, o2, o3, o4, o5, o6, o7⟩ := putF_L E r3 R1 h vv f
    refine ⟨τ, τm, gt μ c d, ?_, ?_, gt_u, o3, o4, o5, o6, o7⟩
    · rw [em, o1, bx_so, xx8_move_b79]
    · rw [r2, bd_so, gt_42, gt_43, o2, bd_so]
  rcases r4 with ⟨q1, q2, q3⟩ | ⟨q0, q1, q2, q3, q4⟩
  · refine fin 0 0 (by rw [q2, q3]; exact VV_nil) ?_
    rw [xx8_move, r1, bd_so]
    dsimp only
    rw [if_pos q1]
  · have rr : ¬ r = -1 := fun q => by rw [q] at q0; exact absurd q0 (by decide)
    refine fin _ _ q4 ?_
    rw [xx8_move, r1, bd_so]
    dsimp only
    rw [if_neg rr, gd_in (by decide) q0 q1, gd_in (by decide) q0 q1]
    rfl
theorem rm_1 {k n : Int32} (k1 : 1 ≤ k) (kn : k < n) (n2 : n ≤ 20000) : 1 ≤ k + 1 ∧ k + 1 ≤ n ∧ (k + 1).toInt = k.toInt + 1 := by
  refine ⟨by lia, by lia, ?_⟩
  rw [tI_add] <;> rw [show (1 : Int32).toInt = 1 from rfl] <;> (have := tI_rng k; rw [tI_lt] at kn; rw [tI_le] at n2; have z : (20000 : Int32).toInt = 20000 := rfl; omega)
theorem remo_lp {L : LQ} (E : EVok (lE L)) {w : WD} {a b n : Int32} (h : (a, b) ∈ wT w) {i : Int64} {es es' : Int32 → List Int32} (n1 : 1 ≤ n) (n2 : n ≤ 20000) (hi : i ≤ Int32.toInt64 n) : ∀ (c m m' : Nat) (k : Int32) (σ μ : mS), k.toInt + c = n.toInt → c < m → c < m' → 1 ≤ k → k ≤ n → LC L w 1 σ μ → RT w σ μ es es' → (∀ j, 1 ≤ j → j ≤ n → hKy σ (es a) j) → LO L w (xx8_remove_b89 (lNn L) m a (Int32.toInt64 n) i (Int32.toInt64 k) σ) (mm_remove_86 (lNn L) m' b (Int32.toInt64 n) i (Int32.toInt64 k) μ) := by
  intro c
  induction c with
  | zero =>
    intro m m' k σ μ hk hm hm' k1 k2 H R f
    obtain ⟨m, rfl⟩ : ∃ j, m = j + 1 := ⟨m - 1, by omega⟩
    obtain ⟨m', rfl⟩ : ∃ j, m' = j + 1 := ⟨m' - 1, by omega⟩
    have e : k = n := by rw [tI_eq]; omega
    subst e
    have c1 : 0 ≤ lg_cmp (Int32.toInt64 k) (Int32.toInt64 k) := lgc_ge.mpr (Int64.le_refl _)
    have c2 : ¬ 0 < lg_cmp i (Int32.toInt64 k) := fun q => by
      have := lgc_gt.mp q
      rw [L_lt] at this
      rw [L_le] at hi
      omega
    obtain ⟨τ, τm, o1, o2, o3, _⟩ := putF_L E H R h (VV_nil (w := w)) (f k k1 (Int32.le_refl _))
    rw [xx8_remove_b89, mm_remove_86, if_pos c1, if_pos c1, if_neg c2, if_pos (lgc_le.mpr hi), o1, bx_so, xx8_remove_b138, mm_remove_145, o2, bd_so]
    exact LO_ok o3
  | succ c ih =>
    intro m m' k σ μ hk hm hm' k1 k2 H R f
    obtain ⟨m, rfl⟩ : ∃ j, m = j + 1 := ⟨m - 1, by omega⟩
    obtain ⟨m', rfl⟩ : ∃ j, m' = j + 1 := ⟨m' - 1, by omega⟩
    have kn : k < n := by rw [tI_lt]; omega
    obtain ⟨q1, q2, q3⟩ := rm_1 k1 kn n2
    have c1 : ¬ 0 ≤ lg_cmp (Int32.toInt64 k) (Int32.toInt64 n) := fun q => by
      have := lgc_ge.mp q
      rw [L_le, L_64, L_64] at this
      rw [tI_lt] at kn
      omega
    have ek : Int32.toInt64 k + 1 = Int32.toInt64 (k + 1) := ll_add (by lia) (by lia)
    obtain ⟨τ, τm, μ1, o1, o2, o3, o4, o5, o6, o7, o8⟩ := move_L (i := k + 1) E H R h (f k k1 k2) (m1 := fun z => lt (Int32.toInt64 k + 1) (fun x4 => mm_remove_86 (lNn L) m' b (Int32.toInt64 n) i x4 z))
    have R' := ih m m' (k + 1) τ τm (by omega) (by omega) (by omega) q1 q2 o4 o5 (fun j j1 j2 => o8 j (f j j1 j2))
    rw [xx8_remove_b89, mm_remove_86, if_neg c1, if_neg c1]
    rw [ek] at o2 ⊢
    have o2' : bd (mm_get (lNn L) μ b 2 (Int32.toInt64 (k + 1))) (fun z2 => bd (mm_set (lNn L) z2 b 2 (Int32.toInt64 k) (z2.1 42) (z2.2.1 43)) (fun z3 => lt (Int32.toInt64 (k + 1)) (fun x4 => mm_remove_86 (lNn L) m' b (Int32.toInt64 n) i x4 z3.2))) = lt (Int32.toInt64 (k + 1)) (fun x4 => mm_remove_86 (lNn L) m' b (Int32.toInt64 n) i x4 τm) := o2
    rw [o1, bx_so, lt, o2', lt]
    exact R'
theorem tables_28 {N : Nat} {z : mS} : xx8_tables N z 28 = xx8_remove N z := show bx (xx8_remove N z) (fun z7 => xx8_tables_b75 N z7) = xx8_remove N z from bx_ok
theorem oft_28 {N : Nat} {z : mS} : mm_ofTables N z 28 = bd (mm_isOf N z 1 4 28) (fun z14 => bd (mm_unless N z14.2 z14.1) (fun z15 => if sF z15 227 = 0 then bd (mm_valueOf N z15 1) (fun z16 => lt (Int64.toInt32 z16.1) (fun x17 => bd (mm_mayBeNumber N z16.2 2 28) (fun z20 => bd (mm_unless N z20.2 z20.1) (fun z21 => if sF z21 227 = 0 then bd (mm_remove N z21 x17 28) (fun z22 => mm_ofTables_293 N z22) else mm_ofTables_293 N z21)))) else some z15)) := rfl
theorem lib_remove {L : LQ} (E : EVok (lE L)) {w : WD} {σ μ : mS} (H : LC L w 0 σ μ) (hl : lB L = 28) : LO L w (xx8_tables (lNn L) σ 28) (mm_ofTables (lNn L) μ 28) := by
  have hl' : (28 : Int32) = Int32.ofNat (lB L) := by rw [hl]; rfl
  have big : 100000 < lNn L := by
    have := EV_N E
    simp only [BIG] at this
    show 100000 < eN (lE L)
    omega
  rw [tables_28, oft_28, xx8_remove]
  refine (tab_L E H (i := 1) (by decide) (by decide) hl' (fun z => ⟨md_pi z 227 1, ?_, u227⟩)).elim (fun ⟨a, b, hab, a1, a2, a3, a4, a5, a6⟩ => ?_) (fun o => .inr o)
  · simp only [unless_0, bd_so, bx_so, bd_bd, lt, gd_z1, gd_z0, sF_fold, sF_pi, if_true, i10, if_false, ite_true, ite_false]
  obtain ⟨n, τ, τm, es, es', o1, o2, n0, n1, H1, H2, R, il, fr, frm⟩ := lenF_L E H hab
  rw [a5, a6, bx_so, bd_so]
  dsimp only
  rw [unless_1 (L_227 H), bd_so]
  simp only [L_227 H, if_true]
  rw [(tag_M H (i := 1) (by decide) (by decide)).2, bd_so, lt, a4, h_ll, o1, bd_so, lt]
  dsimp only
  refine (opt_L E H2 (i := 2) (o := Int32.toInt64 n) (by decide) (by decide) hl' (fun z => ⟨md_pi z 227 1, ?_, u227⟩)).elim (fun ⟨v, m1, m2, m3, o3⟩ => ?_) (fun o => .inr o)
  · simp only [unless_0, bd_so, bx_so, bd_bd, lt, gd_z1, gd_z0, sF_fold, sF_pi, if_true, i10, if_false, ite_true, ite_false, mm_ofTables_293]
  have r3 := nOr (N := lNn L) (o := Int32.toInt64 n) H frm rfl rfl rfl rfl (i := 2) (by decide) (by decide)
  have ev : (if bT μ 2 = 2 then bV μ 2 else Int32.toInt64 n) = v := by
    rcases o3 with ⟨_, q2, q3⟩ | ⟨_, q2, q3⟩
    · rw [if_neg (by rw [q3]; decide), q2]
    · rw [if_pos q2, q3]
  rw [ev] at r3
  rw [m2, m3, bx_so, bd_so]
  dsimp only
  rw [unless_1 (L_227 H), bd_so]
  simp only [L_227 H, if_true]
  rw [show (fun z37 => mm_ofTables_293 (lNn L) z37) = fun z37 => some z37 from rfl, bd_id, mm_remove, o2, bd_so]
  dsimp only
  rw [r3, bd_so]
  dsimp only
  have y0 : (0 : Int64).toInt = 0 := rfl
  have y1 : (1 : Int64).toInt = 1 := rfl
  have nn : 0 ≤ n.toInt ∧ n.toInt ≤ 20000 := by
    rw [tI_le] at n0 n1
    exact ⟨n0, n1⟩
  -- the place is told, or there is something
  have main : ¬ (n = 0 ∧ v = 0) → LO L w (xx8_remove_b45 (lNn L) a (Int32.toInt64 n) v τ) (mm_remove_34 (lNn L) b 28 (Int32.toInt64 n) v τm) := fun hnv => by
    have bad : LO L w (xx8_remove_b61 (lNn L) τ) (mm_remove_50 (lNn L) 28 τm) := by
      rw [xx8_remove_b61, mm_remove_50]
      exact .inr (bad_L E H1 hl' (fun z => ⟨md_pi z 227 1, by rw [gd_z1, lt], u227⟩))
    rw [xx8_remove_b45, mm_remove_34]
    by_cases c1 : lg_cmp v 1 < 0
    · rw [if_pos c1, if_pos c1]; exact bad
    rw [if_neg c1, if_neg c1]
    by_cases c2 : lg_cmp v (Int32.toInt64 n + 1) ≤ 0
    · rw [if_pos c2, if_pos c2]
      have v1 : 1 ≤ v.toInt := by
        have q : ¬ v < 1 := fun q => c1 (lgc_lt.mpr q)
        rw [L_lt, y1] at q; omega
      have a1n : (Int32.toInt64 n + 1).toInt = n.toInt + 1 := by
        rw [L_add] <;> rw [L_64, y1] <;> omega
      have v2 : v.toInt ≤ n.toInt + 1 := by
        have q := lgc_le.mp c2
        rw [L_le, a1n] at q; exact q
      obtain ⟨k, ek, et⟩ := L_of (v := v) (by omega) (by omega)
      obtain ⟨r, c, d, r1, r2, r3, r4⟩ := live_L E H1 hab (VV_n (v := v)) (by decide)
      obtain ⟨υ, υm, e1, e2, e3, e4, e5⟩ := entry_L (N := lNn L) r3 (by decide) r4
      have R2 : RT w υ υm es es' := RT_fr R wle_rfl rfl e4 (mf_tr (P := fun k => uM k || vM k) (mf_mono (gt_u (μ := τm) (c := c) (d := d)) (fun k hk => (Bool.or_eq_false_iff.mp hk).1)) (mf_mono e5 (fun k hk => (Bool.or_eq_false_iff.mp hk).2))) (fun k hk => vK_f (by omega)) (fun k hk => by
        rw [Bool.or_eq_false_iff]; exact ⟨uM_f (by omega), vM_f (by omega)⟩)
      have hk : ∀ j, 1 ≤ j → j ≤ n → hKy υ (es a) j := fun j j1 j2 => hK_fr (hK_lvn (il.2.2.1 j j1 j2)) e4 (vK_f (by omega)) (vK_f (by omega))
      rw [r1, r2, bd_so, bd_so]
      dsimp only
      rw [gt_42', gt_43', e1, e2, bx_so, bd_so]
      by_cases kn : v.toInt ≤ n.toInt
      · have k1 : 1 ≤ k := by rw [tI_le, et, show (1 : Int32).toInt = 1 from rfl]; exact v1
        have k2 : k ≤ n := by rw [tI_le, et]; exact kn
        have := remo_lp E (n := n) hab (i := v) (es := es) (es' := es') (Int32.le_trans k1 k2) n1 (by rw [L_le, L_64]; exact kn) (n.toInt - k.toInt).toNat (lNn L) (lNn L) k υ υm (by omega) (by omega) (by omega) k1 k2 e3 R2 hk
        rw [← ek] at this
        exact this
      · obtain ⟨m, hm⟩ : ∃ j, lNn L = j + 1 := ⟨lNn L - 1, by omega⟩
        have ev1 : v = Int32.toInt64 (n + 1) := by
          rw [L_eq, L_64, tI_add (by rw [show (1 : Int32).toInt = 1 from rfl]; omega) (by rw [show (1 : Int32).toInt = 1 from rfl]; omega), show (1 : Int32).toInt = 1 from rfl]; omega
        have c3 : 0 ≤ lg_cmp v (Int32.toInt64 n) := lgc_ge.mpr (by rw [L_le, L_64]; omega)
        have c4 : 0 < lg_cmp v (Int32.toInt64 n) := lgc_gt.mpr (by rw [L_lt, L_64]; omega)
        have c5 : ¬ lg_cmp v (Int32.toInt64 n) ≤ 0 := fun q => by
          have := lgc_le.mp q
          rw [L_le, L_64] at this; omega
        obtain ⟨ωm, s1, s2⟩ := setN_L E e3 R2 hab (x := v) (fun e he ke => by
          by_cases z : sI υ 214 e = 0
          · exact z
          · refine absurd ?_ il.2.2.2
            have k3 : sI υ 212 e = 3 := ke.1
            have k4 : sJ υ 213 e = v := by
              have := ke.2
              rw [if_neg (by rw [k3]; decide)] at this
              exact this
            exact ⟨e, he, by rw [← mf_I e4 (vK_f (by omega))]; exact k3, by rw [← mf_J e4 (vK_f (by omega)), ← ev1]; exact k4, by rw [← mf_I e4 (vK_f (by omega))]; exact z⟩)
        have x1 : xx8_remove_b89 (lNn L) (lNn L) a (Int32.toInt64 n) v v υ = some (.ok υ) := by
          conv => lhs; arg 2; rw [hm]
          rw [xx8_remove_b89, if_pos c3, if_pos c4]; rfl
        have x2 : mm_remove_86 (lNn L) (lNn L) b (Int32.toInt64 n) v v υm = some ωm := by
          conv => lhs; arg 2; rw [hm]
          rw [mm_remove_86, if_pos c3, if_neg c5, mm_remove_145, s1, bd_so]
        rw [x1, x2]
        exact LO_ok s2
    · rw [if_neg c2, if_neg c2]; exact bad
  have zn : lg_cmp (Int32.toInt64 n) 0 = 0 ↔ n = 0 := by rw [lgc_eq, L_eq, L_64, y0, tI_eq, show (0 : Int32).toInt = 0 from rfl]
  by_cases q1 : n = 0
  · rw [if_pos (zn.mpr q1), if_pos (zn.mpr q1)]
    by_cases q2 : v = 0
    · obtain ⟨υ, υm, b1, b2, b3, _⟩ := give_L (N := lNn L) H1 (by decide) (VV_nil (w := w))
      rw [if_pos (lgc_eq.mpr q2), if_pos (lgc_eq.mpr q2), xx8_giveNil, b1, b2, bx_so, bx_so, bd_so]
      exact LO_ok b3
    · rw [if_neg (fun q => q2 (lgc_eq.mp q)), if_neg (fun q => q2 (lgc_eq.mp q))]
      exact main (fun q => q2 q.2)
  · rw [if_neg (fun q => q1 (zn.mp q)), if_neg (fun q => q1 (zn.mp q))]
    exact main (fun q => q1 q.1)
