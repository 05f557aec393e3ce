/-! LAYER 2: functions of the house: tonumber, whole -/
theorem at_45 {l : List Int32} {k : Nat} : (atL l k = 45 ∧ k < l.length ∧ l.getD k 0 = 45) ∨ (atL l k ≠ 45 ∧ (k < l.length → l.getD k 0 ≠ 45)) := by
  rw [atL]
  by_cases c : k < l.length
  · rw [if_pos c]
    by_cases e : l.getD k 0 = 45
    · exact .inl ⟨e, c, e⟩
    · exact .inr ⟨e, fun _ => e⟩
  · rw [if_neg c]
    exact .inr ⟨by decide, fun h => absurd h c⟩
theorem litB {x y b : Int32} (hx : isB x) (hb : b.toInt8.toInt32 = b) (h : x &&& 255 = y) (hb' : b &&& 255 = b) : x = b ↔ y = b := eqB hx hb h hb'
theorem at_c {l : List Int32} {k : Nat} {b : Int32} (hb : b ≠ -1) : atL l k = b → k < l.length ∧ l.getD k 0 = b := by
  rw [atL]
  by_cases c : k < l.length
  · rw [if_pos c]; exact fun h => ⟨c, h⟩
  · rw [if_neg c]; exact fun h => absurd h.symm hb
theorem at_i {l : List Int32} {k : Nat} (h : k < l.length) : atL l k = l.getD k 0 := by rw [atL, if_pos h]
/-- is there an x behind a 0 -/
def hexB (l : List Int32) (k : Nat) : Bool := decide (atL l k = 48) && (decide (atL l (k + 1) = 120) || decide (atL l (k + 1) = 88))
theorem hx_x {N : Nat} {l : List Int32} {σ μ : mS} (T : TT l σ μ) {mn : Int32} {k j : Nat} (hk : k + j ≤ l.length) : xx8_ofText_b57 N (Int32.ofNat l.length) mn (Int32.ofNat k) (Int32.ofNat j) σ = if hexB l (k + j) then xx8_ofText_b103 N (Int32.ofNat l.length) (Int32.ofNat (k + j)) mn σ else xx8_ofText_b107 N (Int32.ofNat l.length) (Int32.ofNat (k + j)) mn σ := by
  have h4 := T.1
  rw [xx8_ofText_b57, lt, oN_add, oN_s]
  generalize k + j = i at *
  by_cases c : i + 1 < l.length
  · obtain ⟨b1, b2⟩ := TT_x T (k := i) (by omega)
    obtain ⟨d1, d2⟩ := TT_x T (k := i + 1) c
    have e1 := litB (b := 48) b1 (by decide) b2 (by decide)
    have e2 := litB (b := 120) d1 (by decide) d2 (by decide)
    have e3 := litB (b := 88) d1 (by decide) d2 (by decide)
    rw [if_neg (oN_nle (by omega) c), gd_oN (by omega) (by decide), oN_cl (by omega), gd_oN (by omega) (by decide), oN_cl (by omega), gd_oN (by omega) (by decide), hexB, at_i (by omega), at_i c]
    by_cases q1 : l.getD i 0 = 48
    · rw [if_pos (e1.mpr q1), decide_eq_true q1, Bool.true_and]
      by_cases q2 : l.getD (i + 1) 0 = 120
      · rw [if_pos (e2.mpr q2), decide_eq_true q2]; rfl
      · rw [if_neg (fun q => q2 (e2.mp q)), decide_eq_false q2, Bool.false_or]
        by_cases q3 : l.getD (i + 1) 0 = 88
        · rw [if_pos (e3.mpr q3), decide_eq_true q3]; rfl
        · rw [if_neg (fun q => q3 (e3.mp q)), decide_eq_false q3]; rfl
    · rw [if_neg (fun q => q1 (e1.mp q)), decide_eq_false q1]; rfl
  · have e : hexB l i = false := by
      rw [hexB]
      have a1 : atL l (i + 1) = -1 := by rw [atL, if_neg c]
      rw [a1]
      simp only [show decide ((-1 : Int32) = 120) = false from by decide, show decide ((-1 : Int32) = 88) = false from by decide, Bool.or_false, Bool.and_false]
    rw [if_pos (by rw [oN_le (by omega) (by omega)]; omega), e]; rfl
theorem hx_m {N : Nat} {l : List Int32} {σ μ : mS} (T : TT l σ μ) {mn : Int32} {k j : Nat} (hk : k + j ≤ l.length) : mm_givePlain_32 N mn (Int32.ofNat k) (Int32.ofNat j) μ = if hexB l (k + j) then mm_givePlain_76 N (Int32.ofNat (k + j)) mn 0 1 μ else mm_givePlain_113 N N (Int32.ofNat (k + j)) mn 0 (Int32.ofNat (k + j)) 1 μ := by
  have h4 := T.1
  rw [mm_givePlain_32, lt, oN_add]
  generalize k + j = i at *
  rw [at_m T (by omega), bd_so, hexB]
  dsimp only
  by_cases q1 : atL l i = 48
  · rw [if_pos q1, decide_eq_true q1, Bool.true_and, oN_s, at_m T (by omega), bd_so]
    dsimp only
    by_cases q2 : atL l (i + 1) = 120
    · rw [if_pos q2, decide_eq_true q2]; rfl
    · rw [if_neg q2, decide_eq_false q2, Bool.false_or, at_m T (by omega), bd_so]
      dsimp only
      by_cases q3 : atL l (i + 1) = 88
      · rw [if_pos q3, decide_eq_true q3]; rfl
      · rw [if_neg q3, decide_eq_false q3]; rfl
  · rw [if_neg q1, decide_eq_false q1]; rfl
theorem hex_i {l : List Int32} {i : Nat} (h : hexB l i = true) : i + 2 ≤ l.length := by
  rw [hexB, Bool.and_eq_true, Bool.or_eq_true, decide_eq_true_eq, decide_eq_true_eq, decide_eq_true_eq] at h
  rcases h.2 with q | q
  · have := (at_c (by decide) q).1; omega
  · have := (at_c (by decide) q).1; omega
theorem pl_57 {L : LQ} {w : WD} {σ μ : mS} (H : LC L w 0 σ μ) {l : List Int32} (T : TT l σ μ) (big : 10000 < lNn L) {k j : Nat} (hk : k + j ≤ l.length) (mn : Int32) : LO L w (xx8_ofText_b57 (lNn L) (Int32.ofNat l.length) mn (Int32.ofNat k) (Int32.ofNat j) σ) (mm_givePlain_32 (lNn L) mn (Int32.ofNat k) (Int32.ofNat j) μ) := by
  have h4 := T.1
  rw [hx_x T hk, hx_m T hk]
  cases e : hexB l (k + j)
  · rw [if_neg (show ¬ false = true by decide), if_neg (show ¬ false = true by decide), xx8_ofText_b107, xx8_ofText_b108, if_pos rfl, xx8_ofText_b121, lt, Int32.add_zero]
    obtain ⟨k', v', g', r1, r2, r3⟩ := dec_2 (N := lNn L) T (v3 := mn) (v2 := mn) (v5 := Int32.ofNat (k + j)) (l.length - (k + j)) (k + j) (lNn L) (lNn L) 0 1 (by omega) (by omega) (by omega)
    rw [r1, r2]
    exact plain_end H T big r3 (by omega) g' mn v'
  · have hi := hex_i e
    rw [if_pos rfl, if_pos rfl, xx8_ofText_b103, xx8_ofText_b108, if_neg (show ¬ (1 : Int32) = 0 by decide), xx8_ofText_b121, lt, mm_givePlain_76, lt]
    have e2 : Int32.ofNat (k + j) + 2 = Int32.ofNat (k + j + 2) := oN_add (a := k + j) (b := 2)
    rw [e2]
    obtain ⟨k', v', r1, r2, r3⟩ := hex_2 (N := lNn L) T (v3 := mn) (v2 := mn) (v5 := Int32.ofNat (k + j + 2)) (v4 := 1) (by decide) (l.length - (k + j + 2)) (k + j + 2) (lNn L) (lNn L) 0 (by omega) (by omega) (by omega)
    rw [r1, r2]
    exact plain_end H T big r3 (by omega) 1 mn v'
theorem num_plain {L : LQ} {w : WD} {σ μ : mS} (H : LC L w 0 σ μ) {l : List Int32} (T : TT l σ μ) (big : 10000 < lNn L) : LO L w (xx8_ofText (lNn L) σ (Int32.ofNat l.length)) (mm_givePlain (lNn L) μ) := by
  have h4 := T.1
  have le := sk_le (l := l) (k := 0) (by omega)
  have s0 : xx8_ofText (lNn L) σ (Int32.ofNat l.length) = xx8_ofText_b25 (lNn L) (Int32.ofNat l.length) (Int32.ofNat (skL l 0)) σ := sk_t T l.length 0 (lNn L) (by omega) (by omega)
  have m0 : mm_skip (lNn L) μ 0 = some (Int32.ofNat (skL l 0), μ) := sk_mm big T (k := 0) (by omega)
  rw [s0, mm_givePlain, m0, bd_so]
  dsimp only
  rw [at_m T (by omega), bd_so, xx8_ofText_b25]
  dsimp only
  rcases at_45 (l := l) (k := skL l 0) with ⟨a1, a2, a3⟩ | ⟨a1, a2⟩
  · obtain ⟨b1, b2⟩ := TT_x T a2
    rw [if_pos a1, if_neg (oN_nle (by omega) a2), gd_oN (by omega) (by decide), oN_cl (by omega), if_pos ((litB b1 (by decide) b2 (by decide)).mpr a3), xx8_ofText_b46, mm_givePlain_21, if_neg (show ¬ (1 : Int32) = 0 by decide), if_neg (show ¬ (1 : Int32) = 0 by decide)]
    exact pl_57 H T big (j := 1) (by omega) 1
  · rw [if_neg a1, mm_givePlain_21, if_pos rfl]
    have b45 : xx8_ofText_b45 (lNn L) (Int32.ofNat l.length) (Int32.ofNat (skL l 0)) σ = xx8_ofText_b57 (lNn L) (Int32.ofNat l.length) 0 (Int32.ofNat (skL l 0)) 0 σ := by
      rw [xx8_ofText_b45, xx8_ofText_b46, if_pos rfl]
    by_cases c : skL l 0 < l.length
    · obtain ⟨b1, b2⟩ := TT_x T c
      rw [if_neg (oN_nle (by omega) c), gd_oN (by omega) (by decide), oN_cl (by omega), if_neg (fun q => a2 c ((litB b1 (by decide) b2 (by decide)).mp q)), b45]
      exact pl_57 H T big (j := 0) (by omega) 0
    · rw [if_pos (by rw [oN_le (by omega) (by omega)]; omega), b45]
      exact pl_57 H T big (j := 0) (by omega) 0
theorem num_base {L : LQ} {w : WD} {σ μ : mS} (H : LC L w 0 σ μ) {l : List Int32} (T : TT l σ μ) (big : 10000 < lNn L) {b : Int32} (hb : b ≤ 36) : LO L w (xx8_ofBase (lNn L) σ (Int32.ofNat l.length) b) (mm_giveBased (lNn L) μ b) := by
  have h4 := T.1
  have le := sk_le (l := l) (k := 0) (by omega)
  have s0 : xx8_ofBase (lNn L) σ (Int32.ofNat l.length) b = xx8_ofBase_b25 (lNn L) (Int32.ofNat l.length) b (Int32.ofNat (skL l 0)) σ := sk_b T l.length 0 (lNn L) (by omega) (by omega)
  have m0 : mm_skip (lNn L) μ 0 = some (Int32.ofNat (skL l 0), μ) := sk_mm big T (k := 0) (by omega)
  have fin : ∀ (j : Nat) (mn : Int32), skL l 0 + j ≤ l.length → LO L w (xx8_ofBase_b59 (lNn L) (Int32.ofNat l.length) b mn (Int32.ofNat (skL l 0)) (Int32.ofNat j) σ) (mm_giveBased_32 (lNn L) b mn (Int32.ofNat (skL l 0)) (Int32.ofNat j) μ) := fun j mn hj => by
    rw [xx8_ofBase_b59, mm_giveBased_32, lt, lt, oN_add]
    obtain ⟨k', v', r1, r2, r3⟩ := bas_2 (N := lNn L) T (b := b) (v4 := mn) (v5 := Int32.ofNat (skL l 0 + j)) (v3 := mn) hb (l.length - (skL l 0 + j)) (skL l 0 + j) (lNn L) (lNn L) 0 (by omega) (by omega) (by omega)
    rw [r1, r2]
    exact base_end H T big r3 (by omega) mn v'
  rw [s0, mm_giveBased, m0, bd_so]
  dsimp only
  rw [at_m T (by omega), bd_so, xx8_ofBase_b25]
  dsimp only
  rcases at_45 (l := l) (k := skL l 0) with ⟨a1, a2, a3⟩ | ⟨a1, a2⟩
  · obtain ⟨b1, b2⟩ := TT_x T a2
    rw [if_pos a1, if_neg (oN_nle (by omega) a2), gd_oN (by omega) (by decide), oN_cl (by omega), if_pos ((litB b1 (by decide) b2 (by decide)).mpr a3), xx8_ofBase_b46, mm_giveBased_21, if_neg (show ¬ (1 : Int32) = 0 by decide), if_neg (show ¬ (1 : Int32) = 0 by decide)]
    exact fin 1 1 (by omega)
  · rw [if_neg a1, mm_giveBased_21, if_pos rfl]
    have b45 : xx8_ofBase_b45 (lNn L) (Int32.ofNat l.length) b (Int32.ofNat (skL l 0)) σ = xx8_ofBase_b59 (lNn L) (Int32.ofNat l.length) b 0 (Int32.ofNat (skL l 0)) 0 σ := by
      rw [xx8_ofBase_b45, xx8_ofBase_b46, if_pos rfl]
    by_cases c : skL l 0 < l.length
    · obtain ⟨b1, b2⟩ := TT_x T c
      rw [if_neg (oN_nle (by omega) c), gd_oN (by omega) (by decide), oN_cl (by omega), if_neg (fun q => a2 c ((litB b1 (by decide) b2 (by decide)).mp q)), b45]
      exact fin 0 0 (by omega)
    · rw [if_pos (by rw [oN_le (by omega) (by omega)]; omega), b45]
      exact fin 0 0 (by omega)
theorem plain_3 {N : Nat} {z : mS} : xx8_plain N z 3 = xx8_toNumber N z := show bx (xx8_toNumber N z) (fun z7 => xx8_plain_b465 N z7) = _ from bx_ok
theorem base_3 {N : Nat} {z : mS} : mm_base N z 3 = mm_toNumber N z 3 := show bd (mm_toNumber N z 3) (fun z7 => mm_base_465 N z7) = _ from bd_id
theorem lib_tonumber {L : LQ} (E : EVok (lE L)) {w : WD} {σ μ : mS} (H : LC L w 0 σ μ) (hl : lB L = 3) : LO L w (xx8_plain (lNn L) σ 3) (mm_base (lNn L) μ 3) := by
  have hl' : (3 : Int32) = Int32.ofNat (lB L) := by rw [hl]; rfl
  have big : 10000 < lNn L := by
    have := EV_N E
    simp only [BIG] at this
    show 10000 < eN (lE L)
    omega
  have tl1 := tag_L (N := lNn L) H (i := 1) (by decide)
  have tl2 := tag_L (N := lNn L) H (i := 2) (by decide)
  have tm1 := tag_M (N := lNn L) H (i := 1) (by decide) (by decide)
  have tm2 := tag_M (N := lNn L) H (i := 2) (by decide) (by decide)
  have t1 := VV_t (arg_V H (i := 1) (by decide))
  have t2 := VV_t (arg_V H (i := 2) (by decide))
  -- a text is read
  have rd : aT σ 1 = 4 → ∃ l τ τm, xx2_copy (lNn L) σ ((aV σ 1).toInt32) 520 0 = some (Int32.ofNat l.length, τ) ∧ mm_read (lNn L) μ 1 = some τm ∧ TT l τ τm ∧ LC L w 0 τ τm ∧ m_fr uM μ τm := fun c => by
    obtain ⟨l, τ, τm, len, x1, x2, x3, x4, x5, x6, H1, x7, x8⟩ := text_argB E H (i := 1) (by decide) (by decide) (.inr c) (v := 520) (u := 223) (by omega) (.inl rfl)
    rw [c, xx6_text, if_pos rfl] at x1
    obtain ⟨z, hz, e1⟩ := bd_q x1
    simp only [xx6_text_b29, Option.some.injEq] at e1
    refine ⟨l, τ, md_pi τm 224 (Int32.ofNat l.length), ?_, read_m x2, ⟨len, x3, x7, by simp only [sF_pi, sF_pl, sF_ai, sF_al, sG_pi, sG_pl, sG_ai, sG_al, sI_pi, sI_pl, sI_al, sI_ai1, sI_ai2, sJ_pi, sJ_pl, sJ_ai, sJ_al1, sJ_al2, Nat.reduceEqDiff, if_true, if_false, ne_eq, not_false_eq_true, ite_true, ite_false], x4, x8⟩, LC_u H1 mf_rfl (mf_pi mf_rfl rfl), mf_tr x6 (mf_pi mf_rfl rfl)⟩
    rw [hz]
    exact congrArg some e1
  rw [plain_3, base_3, xx8_toNumber, mm_toNumber, tl2.1, tm2.1, bd_so, bd_so]
  dsimp only
  by_cases c2 : aT σ 2 = 0
  · rw [if_pos c2, if_pos (t2.1.mp c2), tl1.1, tm1.1, bd_so, bd_so]
    dsimp only
    by_cases c3 : aT σ 1 = 3
    · have va := arg_V' H (i := 1) (by decide) (arg_n H (by rw [c3]; decide))
      rw [c3, t1.2.1.mp c3] at va
      obtain ⟨τ, τm, b1, b2, b3, _⟩ := give_L (N := lNn L) H (by decide) va
      rw [if_pos c3, if_pos (t1.2.1.mp c3), tl1.2, tm1.2, bd_so, bd_so]
      dsimp only
      rw [xx8_giveNumber, b1, b2, bx_so, bx_so, bd_so, xx8_toNumber_b70, mm_toNumber_142]
      exact LO_ok b3
    · rw [if_neg c3, if_neg (fun q => c3 (t1.2.1.mpr q)), tl1.1, tm1.1, bd_so, bd_so]
      dsimp only
      by_cases c4 : aT σ 1 = 4
      · obtain ⟨l, τ, τm, r1, r2, r3, r4, _⟩ := rd c4
        rw [if_pos c4, if_pos (t1.2.2.1.mp c4), tl1.2, bd_so, r2, bd_so]
        dsimp only
        rw [r1, bd_so]
        dsimp only
        exact LO_end (num_plain r4 r3 big) (fun z => rfl) (fun z => rfl)
      · obtain ⟨τ, τm, b1, b2, b3, _⟩ := give_L (N := lNn L) H (by decide) (VV_nil (w := w))
        rw [if_neg c4, if_neg (fun q => c4 (t1.2.2.1.mpr q)), xx8_giveNil, b1, b2, bx_so, bx_so, bd_so, xx8_toNumber_b70, mm_toNumber_142]
        exact LO_ok b3
  · have n70 : ∀ z, mm_toNumber_70 (lNn L) (md_pi z 227 1) = some (md_pi z 227 1) := fun z => by
      have e : ¬ sF (md_pi z 227 1) 227 = 0 := by simp only [sF_pi, sF_pl, sF_ai, sF_al, sG_pi, sG_pl, sG_ai, sG_al, sI_pi, sI_pl, sI_al, sI_ai1, sI_ai2, sJ_pi, sJ_pl, sJ_ai, sJ_al1, sJ_al2, Nat.reduceEqDiff, if_true, if_false, ne_eq, not_false_eq_true, ite_true, ite_false]; decide
      rw [mm_toNumber_70, sF_fold, if_neg e, mm_toNumber_92]
    rw [if_neg c2, if_neg (fun q => c2 (t2.1.mpr q)), tl1.1, bd_so]
    dsimp only
    by_cases c4 : aT σ 1 = 4
    · have c4' := t1.2.2.1.mp c4
      have e59 : mm_toNumber_59 (lNn L) 3 μ = bd (mm_bad (lNn L) μ 2 3) (fun z4 => gd (zB 1) (lt (md_pi z4 227 1) (fun σ5 => mm_toNumber_70 (lNn L) σ5))) := rfl
      have bad2 : ∀ {α : Type} {τ : mS}, m_fr uX σ τ → OEL (α := α) L w (bx (xx8_bad (lNn L) τ 2) (fun z3 => some (Except.error (z3.1, z3.2)))) (mm_toNumber_59 (lNn L) 3 μ) := fun {α τ} fr => by
        rw [e59]
        exact bad_L E (LC_u H fr mf_rfl) hl' (fun z => ⟨md_pi z 227 1, by rw [gd_z1, lt, n70], u227⟩)
      have is4 : mm_isOf (lNn L) μ 1 3 3 = some (1, μ) := by
        rw [mm_isOf, tm1.1, bd_so]
        dsimp only
        rw [if_pos c4', gd_z1]
      rw [if_pos c4, is4, bd_so]
      dsimp only
      rw [unless_1 (L_227 H), bd_so, sF_fold, if_pos (L_227 H), tm2.1, bd_so]
      dsimp only
      by_cases c3 : aT σ 2 = 3
      · have va := arg_V' H (i := 2) (by decide) (arg_n H (by rw [c3]; decide))
        have c3' := t2.2.1.mp c3
        rw [c3, c3'] at va
        have ev : aV σ 2 = bV μ 2 := by
          rcases va with q | q | q | q | q | q | q | q | q
          case inr.inr.inr.inl => exact q.2.2
          all_goals (obtain ⟨q, _⟩ := q; exact absurd q (by decide))
        rw [if_pos c3', tm2.2, bd_so, xx8_number, tl2.1, bd_so]
        dsimp only
        rw [if_pos c3, tl2.2, bd_so, bx_so, ev, tm2.2]
        dsimp only
        by_cases d1 : lg_cmp (bV μ 2) 2 < 0
        · rw [if_pos d1, if_pos d1]
          exact .inr (bad2 mf_rfl)
        · rw [if_neg d1, if_neg d1, bd_so]
          dsimp only
          by_cases d2 : lg_cmp (bV μ 2) 36 ≤ 0
          · obtain ⟨l, τ, τm, r1, r2, r3, r4, r5⟩ := rd c4
            have tm3 := tag_Mq (N := lNn L) H r5 rfl rfl rfl rfl (i := 2) (by decide) (by decide)
            have hb : (bV μ 2).toInt32 ≤ 36 := by
              have q1 := lgc_le.mp d2
              have q2 : ¬ bV μ 2 < 2 := fun q => d1 (lgc_lt.mpr q)
              rw [L_le] at q1
              rw [L_lt] at q2
              have z2 : (2 : Int64).toInt = 2 := rfl
              have z36 : (36 : Int64).toInt = 36 := rfl
              have z36' : (36 : Int32).toInt = 36 := rfl
              rw [tI_le, ll_32 (by omega), z36']; omega
            rw [if_pos d2, if_pos d2, tl1.2, bd_so]
            dsimp only
            rw [r1, bd_so, mm_toNumber_70, sF_fold, if_pos (L_227 H), r2, bd_so, tm3.2, bd_so]
            dsimp only
            exact LO_end (num_base r4 r3 big hb) (fun z => rfl) (fun z => rfl)
          · rw [if_neg d2, if_neg d2]
            exact .inr (bad2 mf_rfl)
      · rw [if_neg (fun q => c3 (t2.2.1.mpr q)), xx8_number, tl2.1, bd_so]
        dsimp only
        rw [if_neg c3]
        refine .inr (OEL_bx ?_)
        exact bad2 mf_rfl
    · have c4' : ¬ bT μ 1 = 3 := fun q => c4 (t1.2.2.1.mpr q)
      rw [if_neg c4, mm_isOf, tm1.1, bd_so]
      dsimp only
      rw [if_neg c4', bd_bd]
      refine .inr (bad_L E H hl' (fun z => ⟨md_pi z 227 1, ?_, u227⟩))
      rw [gd_z0, bd_so]
      dsimp only
      rw [unless_0, bd_so]
      rw [sF_fold, if_neg (show ¬ sF (md_pi z 227 1) 227 = 0 by simp only [sF_pi, sF_pl, sF_ai, sF_al, sG_pi, sG_pl, sG_ai, sG_al, sI_pi, sI_pl, sI_al, sI_ai1, sI_ai2, sJ_pi, sJ_pl, sJ_ai, sJ_al1, sJ_al2, Nat.reduceEqDiff, if_true, if_false, ne_eq, not_false_eq_true, ite_true, ite_false]; decide), n70]
