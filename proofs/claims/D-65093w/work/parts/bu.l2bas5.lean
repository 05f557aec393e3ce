/-! LAYER 2: functions of the house: assert, select, next -/
theorem il_dec {n i : Int32} (h : ¬ n < i) (h1 : n ≤ 100) (i0 : 1 ≤ i) : (n.toInt - (i + 1).toInt).toNat < (n.toInt - i.toInt).toNat + 1 ∧ ((n.toInt - i.toInt).toNat + 1 = (n.toInt - (i + 1).toInt).toNat + 2 ∨ True) := by
  refine ⟨?_, .inr trivial⟩
  have e : (i + 1).toInt = i.toInt + 1 := by
    have z : (1 : Int32).toInt = 1 := rfl
    have z1 : (100 : Int32).toInt = 100 := rfl
    have := tI_rng i
    rw [tI_lt] at h
    rw [tI_le] at h1 i0
    rw [tI_add] <;> omega
  omega
/-- values are given one behind the other: the arguments from k + 1 on -/
def GVp (w : WD) (σ0 μ0 : mS) (k j : Int32) (τ : mS) : Prop := sF τ 402 = j ∧ ∀ i, 0 ≤ i → i < j → sI τ 400 i = aT σ0 (1 + k + i) ∧ sJ τ 401 i = aV σ0 (1 + k + i)
theorem gp_1 {k j n : Int32} (k0 : 0 ≤ k) (j0 : 0 ≤ j) (n0 : 0 ≤ n) (n1 : n ≤ 100) (kn : k + n ≤ 100) (h : ¬ k + n < 1 + k + j) (k1 : k ≤ 100) (j1 : j ≤ n) : j < n ∧ j < 100 ∧ 1 + k + j + 1 = 1 + k + (j + 1) := ⟨by lia, by lia, by lia⟩
theorem gp_2 {k j n : Int32} (k0 : 0 ≤ k) (j0 : 0 ≤ j) (n0 : 0 ≤ n) (n1 : n ≤ 100) (kn : k + n ≤ 100) (h : k + n < 1 + k + j) (k1 : k ≤ 100) (j1 : j ≤ n) : j = n := by lia
/-- assert gives all arguments -/
theorem as18_lp {N : Nat} {L : LQ} {w : WD} {σ μ : mS} (H : LC L w 0 σ μ) : ∀ (m : Nat) (j : Int32) (τ : mS), 0 ≤ j → j ≤ ln L → ((ln L).toInt - j.toInt).toNat < m → m_fr vK σ τ → GVp w σ μ 0 j τ → ∃ υ, xx8_assertTrue_b18 N m (1 + j) τ = some (.ok υ) ∧ m_fr vK σ υ ∧ GVp w σ μ 0 (ln L) υ := by
  have n1 := H.2.1.2
  intro m
  induction m with
  | zero => intro j τ _ _ h; omega
  | succ m ih =>
    intro j τ j0 j1 hm fr hp
    have e399 : sF τ 399 = ln L := by rw [mf_F fr rfl]; exact H.2.1.1.1
    simp only [xx8_assertTrue_b18, sF_fold]
    rw [e399]
    by_cases c : ln L < 1 + j
    · have : j = ln L := by lia
      rw [if_pos c]
      exact ⟨τ, rfl, fr, by rw [← this]; exact hp⟩
    · have jn : j < ln L := by lia
      have T := tag_L (N := N) H (i := 1 + j) (by lia)
      have tx : xx8_tag N τ (1 + j) = some (aT σ (1 + j), τ) := by
        have e := aT_fr fr (h1 := rfl) (h2 := rfl)
        rw [← e]
        simp only [xx8_tag, xx8_tag_b26, aT, sF_fold]
        rw [e399, if_neg c, if_neg c, gd_in (by decide) (by lia) (by lia)]
        rfl
      have tv : xx8_value N τ (1 + j) = some (aV σ (1 + j), τ) := by
        have e := aV_fr fr (h1 := rfl) (h2 := rfl)
        rw [← e]
        simp only [xx8_value, xx8_value_b26, aV, sF_fold]
        rw [e399, if_neg c, if_neg c, gd_in (by decide) (by lia) (by lia)]
        rfl
      have v := arg_V' H (i := 1 + j) (by lia) c
      have t := VV_tag v
      obtain ⟨υ, a1, a2, a3, a4, a5, a6⟩ := give1_x (N := N) (σ := τ) (n := j) (t := aT σ (1 + j)) (v := aV σ (1 + j)) hp.1 j0 (by lia) t.1 t.2.1
      rw [if_neg c, tx]
      simp only [bd_so, tv, xx8_give, a1, bx_so, lt]
      rw [show 1 + j + 1 = 1 + (j + 1) by lia]
      have ee : (j + 1).toInt = j.toInt + 1 := by
        have z : (1 : Int32).toInt = 1 := rfl
        have z1 : (100 : Int32).toInt = 100 := rfl
        have := tI_rng j
        rw [tI_lt] at jn
        rw [tI_le] at n1 j0
        rw [tI_add] <;> omega
      rw [tI_lt] at jn
      refine ih (j + 1) υ (by lia) (by rw [tI_le]; omega) (by omega) (mf_tr fr a2) ⟨a3, fun i i0 i1 => ?_⟩
      by_cases q : i < j
      · rw [(a4 i i0 q).1, (a4 i i0 q).2]; exact hp.2 i i0 q
      · have : i = j := by lia
        subst this
        rw [a5, a6, show (1 : Int32) + 0 + i = 1 + i by lia]
        exact ⟨rfl, rfl⟩
theorem GV_of {w : WD} {τ τm : mS} {n : Int32} (hx : sF τ 402 = n) (hm : sF τm 190 = n) (n0 : 0 ≤ n) (n1 : n ≤ 100) (h : ∀ i, 0 ≤ i → i < n → VV w (sI τ 400 i) (sJ τ 401 i) (sI τm 188 i) (sJ τm 189 i)) : GV w τ τm n := ⟨hx, hm, n0, by lia, h⟩
/-- what is given changes on both sides -/
theorem LC_gv {L : LQ} {w : WD} {g n : Int32} {σ μ τ τm : mS} (H : LC L w g σ μ) (fr : m_fr vK σ τ) (frm : m_fr vM μ τm) (G : GV w τ τm n) (n1 : n ≤ 100) : LC L w n τ τm :=
  ⟨LM_lt H.1 (vK_lt fr) (vM_lt frm) (mf_F fr rfl) (mf_F fr rfl), ⟨AR_fr H.2.1.1 wle_rfl fr frm rfl rfl rfl rfl rfl rfl, H.2.1.2⟩, ⟨H.2.2.1.1, by rw [mf_F fr rfl]; exact H.2.2.1.2.1, by rw [mf_F frm rfl]; exact H.2.2.1.2.2.1, by rw [mf_F frm rfl]; exact H.2.2.1.2.2.2.1, by rw [mf_F frm rfl]; exact H.2.2.1.2.2.2.2.1, H.2.2.1.2.2.2.2.2⟩, ⟨G, n1⟩⟩
def rX (k : Nat) : Bool := [403, 404, 405].contains k
theorem rX_lt {σ τ : mS} (h : m_fr rX σ τ) : m_fr ltX σ τ := mf_mono h (fun k hk => by
  simp only [ltX, inR, Bool.or_eq_false_iff, Bool.and_eq_false_iff, decide_eq_false_iff_not] at hk
  simp only [rX, List.contains_cons, List.contains_nil, Bool.or_eq_false_iff, beq_eq_false_iff_ne]
  repeat' apply And.intro
  all_goals first | trivial | omega)
theorem rX_k {k : Nat} (h : kX k) : rX k = false := by
  simp only [kX] at h
  simp only [rX, List.contains_cons, List.contains_nil, Bool.or_eq_false_iff, beq_eq_false_iff_ne]
  repeat' apply And.intro
  all_goals first | trivial | omega
theorem f227_lt {μ : mS} {v : Int32} : m_fr ltM μ (md_pi μ 227 v) := mf_pi mf_rfl rfl
/-- raise: the system notes the error's value, the reference goes down -/
theorem raise_x {L : LQ} (E : EVok (lE L)) {w : WD} {tx ty : Int32} {vx vm : Int64} {σ μ : mS} (H : LM L w σ μ) (v : VV w tx vx ty vm) : ∃ τ, xx6_raise (lNn L) σ tx vx = some (1107, τ) ∧ LM L w τ μ ∧ TH w τ ty vm ∧ sF τ 405 = lnH τ (lX L (lc L)) := by
  have fr : m_fr rX σ (md_pl (md_pi σ 403 tx) 404 vx) := mf_pl (mf_pi mf_rfl rfl) rfl
  have H1 : LM L w (md_pl (md_pi σ 403 tx) 404 vx) μ := LM_lt H (rX_lt fr) mf_rfl (mf_F fr rfl) (mf_F fr rfl)
  have b := (CL_b H1.1).2.2.1
  have la := (lah_2 (EV_N E) H1.1.1 (FL_LK H1.1.2.2) (by lia)).1
  generalize he : md_pl (md_pi σ 403 tx) 404 vx = σ2 at *
  have fr2 : m_fr rX σ2 (md_pi σ2 405 (lnH σ2 (lX L (lc L)))) := mf_pi mf_rfl rfl
  refine ⟨md_pi σ2 405 (lnH σ2 (lX L (lc L))), ?_, LM_lt H1 (rX_lt fr2) mf_rfl (mf_F fr2 rfl) (mf_F fr2 rfl), ?_, ?_⟩
  · have la' : xx6_lineAtHand (lNn L) σ2 = some (lnH σ2 (lX L (lc L)), σ2) := la
    simp only [xx6_raise, lt, he, la', bd_so]
  · simp only [TH, sF_pi, sF_pl, sF_ai, sF_al, sG_pi, sG_pl, sG_ai, sG_al, sI_pi, sI_pl, sI_al, sI_ai1, sI_ai2, sJ_pi, sJ_pl, sJ_ai, sJ_al1, sJ_al2, Nat.reduceEqDiff, if_true, if_false, ne_eq, not_false_eq_true, ite_true, ite_false]
    rw [← he]
    simp only [sF_pi, sF_pl, sF_ai, sF_al, sG_pi, sG_pl, sG_ai, sG_al, sI_pi, sI_pl, sI_al, sI_ai1, sI_ai2, sJ_pi, sJ_pl, sJ_ai, sJ_al1, sJ_al2, Nat.reduceEqDiff, if_true, if_false, ne_eq, not_false_eq_true, ite_true, ite_false]
    exact v
  · rw [lnH_fr fr2 (fun k hk => rX_k hk) (fun m => mf_I fr2 rfl)]
    simp only [sF_pi, sF_pl, sF_ai, sF_al, sG_pi, sG_pl, sG_ai, sG_al, sI_pi, sI_pl, sI_al, sI_ai1, sI_ai2, sJ_pi, sJ_pl, sJ_ai, sJ_al1, sJ_al2, Nat.reduceEqDiff, if_true, if_false, ne_eq, not_false_eq_true, ite_true, ite_false]
theorem raise_L {α : Type} {L : LQ} (E : EVok (lE L)) {w : WD} {tx ty : Int32} {vx vm : Int64} {σ μ : mS} (H : LM L w σ μ) (v : VV w tx vx ty vm) : OEL (α := α) L w (bd (xx6_raise (lNn L) σ tx vx) (fun z => some (Except.error (z.1, z.2)))) (mm_raise (lNn L) (md_pi μ 227 1) ty vm) := by
  obtain ⟨τ, a1, a2, a3, a4⟩ := raise_x E H v
  rw [a1, bd_so]
  refine .inl ⟨w, τ, md_pi μ 227 1, ty, vm, 450, rfl, fun μ' hm => ⟨μ', hm, mf_rfl, ?_⟩, by decide, wle_rfl, LM_lt a2 mf_rfl f227_lt rfl rfl, a3, a4⟩
  rw [k_raise (v := 1) (by simp only [sF_pi, sF_pl, sF_ai, sF_al, sG_pi, sG_pl, sG_ai, sG_al, sI_pi, sI_pl, sI_al, sI_ai1, sI_ai2, sJ_pi, sJ_pl, sJ_ai, sJ_al1, sJ_al2, Nat.reduceEqDiff, if_true, if_false, ne_eq, not_false_eq_true, ite_true, ite_false]) μ' hm]
  decide
theorem lib_assert {L : LQ} (E : EVok (lE L)) {w : WD} {σ μ : mS} (H : LC L w 0 σ μ) (hl : lB L = 4) : LO L w (xx8_assertTrue (lNn L) σ) (mm_base (lNn L) μ 4) := by
  have hl' : (4 : Int32) = Int32.ofNat (lB L) := by rw [hl]; rfl
  unfold xx8_assertTrue mm_base
  iterate 4 rw [if_neg (by decide)]
  rw [if_pos rfl]
  refine (any_L E H (i := 1) hl' (fun z => ⟨md_pi z 227 1, ?_, u227⟩)).elim (fun ⟨n1, a1, a2⟩ => ?_) (fun o => .inr o)
  · simp only [unless_0, bd_so, bx_so, bd_bd, lt, gd_z1, gd_z0, sF_fold, sF_pi, if_true, i10, if_false, ite_true, ite_false, mm_base_257, mm_base_465]
  have v := arg_V' H (i := 1) (by decide) (by lia)
  have tt := VV_true v
  have n1' := H.2.1.2
  have n0 := H.2.1.1.2.1
  have e399 : sF σ 399 = ln L := H.2.1.1.1
  have e222 : sF μ 222 = ln L := H.2.2.1.2.2.2.1
  rw [a1, a2]
  simp only [bx_so, bd_so, unless_1 (L_227 H), sF_fold, L_227 H, if_true, (tag_L H (i := 1) (by decide)).1, (tag_M H (i := 1) (by decide) (by decide)).1, (tag_M H (i := 1) (by decide) (by decide)).2, isTrue_m]
  by_cases c : bT μ 1 = 0 ∨ (bT μ 1 = 1 ∧ bV μ 1 = 0)
  · have tx : ¬ 1 < aT σ 1 := fun q => tt.mp q c
    have ix : xx6_isTrue (lNn L) σ (aT σ 1) = some (0, σ) := by
      simp only [xx6_isTrue, xx6_isTrue_b10, gd_z0, gd_z1, if_neg (show ¬ 1 < aT σ 1 from tx), if_pos (show aT σ 1 ≤ 1 by lia)]
    rw [if_pos c, ix]
    simp only [bd_so, if_true, sF_fold, e399, mm_base_257, L_227 H, gd_z1, lt, sF_pi, sF_pl, sF_ai, sF_al, sG_pi, sG_pl, sG_ai, sG_al, sI_pi, sI_pl, sI_al, sI_ai1, sI_ai2, sJ_pi, sJ_pl, sJ_ai, sJ_al1, sJ_al2, Nat.reduceEqDiff, if_true, if_false, ne_eq, not_false_eq_true, ite_true, ite_false, e222]
    by_cases m : ln L ≤ 1
    · rw [if_pos m, if_pos m]
      simp only [mm_base_465, bd_id, xx8_assertTrue_b91]
      exact .inr (fault_L E H.1 (by decide) (by decide) tx_110 mtl.2.1)
    · have H' : LC L w 0 σ μ := H
      have v2 := arg_V' H (i := 2) (by decide) (by lia)
      have tm2 : mm_typeOf (lNn L) (md_pi μ 227 1) 2 = some (bT μ 2, md_pi μ 227 1) ∧ mm_valueOf (lNn L) (md_pi μ 227 1) 2 = some (bV μ 2, md_pi μ 227 1) := by
        obtain ⟨q1, q2⟩ := tag_M (N := lNn L) H (i := 2) (by decide) (by decide)
        have cb := CL_b H.1.1
        have e221 : sF μ 221 = (lT L).2.2.2.1 := H.2.2.1.2.2.1
        obtain ⟨c1, c2⟩ := lc_2 (i := 2) cb.1 cb.2.1 (by decide) (by decide)
        simp only [mm_typeOf, mm_typeOf_23, mm_valueOf, bT, bV, sF_fold, sI_fold, sJ_fold, sF_pi, sF_pl, sF_ai, sF_al, sG_pi, sG_pl, sG_ai, sG_al, sI_pi, sI_pl, sI_al, sI_ai1, sI_ai2, sJ_pi, sJ_pl, sJ_ai, sJ_al1, sJ_al2, Nat.reduceEqDiff, if_true, if_false, ne_eq, not_false_eq_true, ite_true, ite_false]
        rw [e221, gd_in (by decide) c1 c2, gd_in (by decide) c1 c2]
        refine ⟨?_, rfl⟩
        by_cases q : sF μ 222 < 2
        · rw [if_pos q, if_pos q]
        · rw [if_neg q, if_neg q]
      rw [if_neg m, if_neg m]
      simp only [(tag_L H (i := 2) (by decide)).1, (tag_L H (i := 2) (by decide)).2, tm2.1, tm2.2, bd_so, mm_base_465, bd_id, xx8_assertTrue_b91]
      exact .inr (raise_L E H.1 v2)
  · have tx : 1 < aT σ 1 := tt.mpr c
    have ix : xx6_isTrue (lNn L) σ (aT σ 1) = some (1, σ) := by
      simp only [xx6_isTrue, xx6_isTrue_b10, gd_z0, gd_z1, if_pos tx, if_neg (show ¬ aT σ 1 ≤ 1 by lia)]
    rw [if_neg c, ix]
    have i1 : ((1 : Int32) = 0) = False := i10
    simp only [bd_so, i1, if_false]
    obtain ⟨υ, b1, b2, b3⟩ := as18_lp (N := lNn L) H (lNn L) 0 (md_pi σ 402 0 |> fun _ => σ) (by decide) n0 (big_d (EV_N E)) mf_rfl ⟨H.2.2.2.1.1, fun i i0 i1 => by exfalso; lia⟩
    obtain ⟨τm, c1, c2, c3, c4⟩ := gat_L (EV_N E) H (k := 0) (n := ln L) (by decide) n0 n1' (by lia) (by decide)
    have e0 : sF μ 221 + 1 + 0 = sF μ 221 + 1 := by lia
    rw [e0] at c1
    have b1' : xx8_assertTrue_b18 (lNn L) (lNn L) 1 σ = some (.ok υ) := b1
    have c1' : mm_gather (lNn L) μ (sF μ 221 + 1) (sF μ 222) = some τm := by rw [e222]; exact c1
    rw [b1', c1']
    simp only [bd_so, mm_base_465]
    refine LO_ok (LC_gv H b2 c2 (GV_of b3.1 c3 n0 n1' (fun i i0 i1 => ?_)) n1')
    have := arg_V' H (i := 1 + 0 + i) (by lia) (by lia)
    rw [(b3.2 i i0 i1).1, (b3.2 i i0 i1).2, (c4 i i0 i1).1, (c4 i i0 i1).2]
    exact this
