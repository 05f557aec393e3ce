/-! LAYER 2: functions of the house: error -/
def lnB (σ : mS) : List Int32 → Int32
  | [] => 0
  | f :: fl => if sI σ 355 f = 0 then lnH σ fl else lnB σ fl
theorem lbl_1 {N : Nat} {σ : mS} {ff : Int32 → Nat → Int32} {k0 : Int32} : ∀ (fl : List Int32) (h n : Int32) (k : Nat), LK σ ff k0 fl n → seg (sI σ 356) h fl (-1) → fl.length < k → xx8_lineBelow_b20 N k h 1 σ = some (lnH σ fl, σ) := by
  intro fl
  induction fl with
  | nil =>
    intro h n k _ hs hk
    obtain ⟨k, rfl⟩ : ∃ j, k = j + 1 := ⟨k - 1, by simp at hk; omega⟩
    have : h = -1 := hs
    subst this
    rw [xx8_lineBelow_b20, if_pos rfl]; rfl
  | cons f fl ih =>
    intro h n k hl hs hk
    obtain ⟨k, rfl⟩ : ∃ j, k = j + 1 := ⟨k - 1, by simp at hk; omega⟩
    obtain ⟨rfl, hs⟩ := hs
    obtain ⟨l1, l2, l3, l4⟩ := hl
    obtain ⟨f0, f1⟩ := l2
    rw [xx8_lineBelow_b20, if_neg (by lia), gd_in (by decide) f0 f1, sI_fold]
    rcases l3 with ⟨a1, a2⟩ | ⟨a1, a2, a3⟩
    · rw [if_neg (by rw [a1]; decide), xx8_lineBelow_b60, gd_in (by decide) f0 f1, lt, lnH, if_neg (by rw [a1]; decide)]
      exact ih _ (n - 1) k l4 hs (by simp at hk; omega)
    · obtain ⟨b1, b2, b3⟩ := a3
      rw [if_pos a1, lt, if_pos (by decide), gd_in (by decide) f0 f1, sI_fold, gd_in (by decide) b1 b2, lnH, if_pos a1]
      rfl
theorem lbl_0 {N : Nat} {σ : mS} {ff : Int32 → Nat → Int32} {k0 : Int32} : ∀ (fl : List Int32) (h n : Int32) (k : Nat), LK σ ff k0 fl n → seg (sI σ 356) h fl (-1) → fl.length < k → xx8_lineBelow_b20 N k h 0 σ = some (lnB σ fl, σ) := by
  intro fl
  induction fl with
  | nil =>
    intro h n k _ hs hk
    obtain ⟨k, rfl⟩ : ∃ j, k = j + 1 := ⟨k - 1, by simp at hk; omega⟩
    have : h = -1 := hs
    subst this
    rw [xx8_lineBelow_b20, if_pos rfl]; rfl
  | cons f fl ih =>
    intro h n k hl hs hk
    obtain ⟨k, rfl⟩ : ∃ j, k = j + 1 := ⟨k - 1, by simp at hk; omega⟩
    obtain ⟨rfl, hs⟩ := hs
    obtain ⟨l1, l2, l3, l4⟩ := hl
    obtain ⟨f0, f1⟩ := l2
    rw [xx8_lineBelow_b20, if_neg (by lia), gd_in (by decide) f0 f1, sI_fold]
    rcases l3 with ⟨a1, a2⟩ | ⟨a1, a2, a3⟩
    · rw [if_neg (by rw [a1]; decide), xx8_lineBelow_b60, gd_in (by decide) f0 f1, lt, lnB, if_neg (by rw [a1]; decide)]
      exact ih _ (n - 1) k l4 hs (by simp at hk; omega)
    · rw [if_pos a1, lt, show (0 : Int32) + 1 = 1 from by decide, if_neg (show ¬ (1 : Int32) = 2 by decide), xx8_lineBelow_b60, gd_in (by decide) f0 f1, lt, lnB, if_pos a1]
      exact lbl_1 fl _ (n - 1) k l4 hs (by simp at hk; omega)
theorem mlb_1 {N : Nat} {σ μ : mS} : ∀ (fl : List Int32) (n : Int32) (k : Nat), LK σ (mff μ) (sI μ 162 (sF μ 172)) fl n → 0 ≤ sI μ 162 (sF μ 172) → n ≤ 255 → 0 ≤ sF μ 172 → sF μ 172 < 121 → fl.length < k → mm_lineBelow_9 N k 1 (n - 1) μ = some (lnB σ fl, μ) := by
  intro fl
  induction fl with
  | nil =>
    intro n k hl h0 h1 r0 r1 hk
    obtain ⟨k, rfl⟩ : ∃ j, k = j + 1 := ⟨k - 1, by simp at hk; omega⟩
    have e : n = sI μ 162 (sF μ 172) := hl
    have g1 : n - 1 < sI μ 162 (sF μ 172) := by rw [← e]; lia
    rw [mm_lineBelow_9, sF_fold, gd_in (by decide) r0 r1, sI_fold, if_pos g1]
    rfl
  | cons f fl ih =>
    intro n k hl h0 h1 r0 r1 hk
    obtain ⟨k, rfl⟩ : ∃ j, k = j + 1 := ⟨k - 1, by simp at hk; omega⟩
    obtain ⟨l1, l2, l3, l4⟩ := hl
    have e := ih (n - 1) k l4 h0 (by lia) r0 r1 (by simp at hk; omega)
    have e' := mlb_lp (N := N) fl (n - 1) k l4 h0 (by lia) r0 r1 (by simp at hk; omega)
    have e2 : n - 1 + -1 = n - 1 - 1 := by lia
    have g1 : ¬ n - 1 < sI μ 162 (sF μ 172) := by lia
    have e10 : (1 : Int32) + -1 = 0 := by decide
    rcases l3 with ⟨a1, a2⟩ | ⟨a1, a2, a3⟩
    · have a2' : sI μ 144 (n - 1) = 1 := a2
      have a3' : ¬ sI σ 355 f = 0 := by rw [a1]; decide
      rw [mm_lineBelow_9, sF_fold, gd_in (by decide) r0 r1, sI_fold, if_neg g1, gd_in (by decide) (by lia) (by lia), sI_fold, if_neg (by rw [a2']; decide), mm_lineBelow_45, lt, e2, e]
      rw [lnB, if_neg a3']
    · have a2' : sI μ 144 (n - 1) = 0 := a2
      rw [mm_lineBelow_9, sF_fold, gd_in (by decide) r0 r1, sI_fold, if_neg g1, gd_in (by decide) (by lia) (by lia), sI_fold, if_pos a2', if_neg (show ¬ (1 : Int32) = 0 by decide), lt, e10, mm_lineBelow_45, lt, e2, e']
      rw [lnB, if_pos a1]
theorem lnB_nn {σ : mS} {ff : Int32 → Nat → Int32} {k0 : Int32} : ∀ {fl : List Int32} {n : Int32}, LK σ ff k0 fl n → 0 ≤ lnB σ fl
  | [], _, _ => by simp only [lnB]; decide
  | f :: fl, n, h => by
    simp only [lnB]
    by_cases c : sI σ 355 f = 0
    · rw [if_pos c]; exact lnH_nn h.2.2.2
    · rw [if_neg c]; exact lnB_nn h.2.2.2
theorem lbl_2 {N : Nat} (hN : BIG ≤ N) {S : SR} {K : Int32 → Int32 → Int32 → Prop} {q : Int} {w : WD} {xf : Int32 → List Int32} {c d : Int32} {rest : PL2} {σ μ : mS} (H : ME S K q w xf c d rest σ μ) (hl : LK σ (mff μ) (sI μ 162 d) (xf c) (sF μ 154)) (h1 : sF μ 154 ≤ 255) : xx8_lineBelow N σ = some (lnB σ (xf c), σ) ∧ mm_lineBelow N μ 1 = some (lnB σ (xf c), μ) := by
  obtain ⟨c0, c1, c2, c3, c4, _⟩ := ME_c H
  obtain ⟨_, _, _, ⟨fc, bl, _, x2, _, _, x5, _⟩, _, h6, ⟨e1, e2, _⟩, _⟩ := H
  have kb' := BC_kb h6
  have len : (xf c).length ≤ 202 := by
    have := fl_sub (xf := xf) c0
    rw [List.length_append] at x5
    simp only [fAll] at x5
    omega
  have sg := x2 c c0
  have big : (xf c).length < N := by simp only [BIG] at hN; omega
  subst e1; subst e2
  refine ⟨?_, ?_⟩
  · rw [xx8_lineBelow, sF_fold, gd_in (by decide) c1 c2, lt]
    exact lbl_0 _ _ _ N hl sg big
  · rw [mm_lineBelow, lt, sF_fold]
    exact mlb_1 _ _ N hl kb'.1 h1 c3 c4 big
/-- a message that is put together becomes an error -/
theorem msg_OE {e : EV} (E : EVok e) {w : WD} {xf : Int32 → List Int32} {c d : Int32} {rest : PL2} {ct : CT} {σ μ : mS} (H : CL e w xf c d rest ct σ μ) {L : List Int32} (hL : hasL (σ.2.2.1 407) 0 L) (hb : bufL μ L) (len : L.length ≤ 4000) {α : Type} : OE (α := α) e w xf c d rest ct σ μ (fun z => z) (bx (xx2_make (eN e) σ 407 0 (Int32.ofNat L.length)) (fun z6 => bd (xx6_raise (eN e) z6.2 4 (Int32.toInt64 z6.1)) (fun z7 => some (Except.error (z7.1, z7.2))))) (mm_raiseMessage (eN e) μ) := by
  have hp : ∀ k, kX k → gX k = false := fun k hk => gX_f (.inl hk)
  have hq : ∀ k, kM k → gM k = false := fun k hk => gM_k (.inl hk)
  have r : mm_raiseMessage (eN e) μ = mb_raiseMessage (eN e) (rc_finish (eN e) 449) μ := rfl
  have sx : bx (bx (xx2_make (eN e) σ 407 0 (Int32.ofNat L.length)) (fun z4 => bd (xx6_raise (eN e) z4.2 4 (Int32.toInt64 z4.1)) (fun z5 => some (Except.ok (z5.1, z5.2))))) (fun z => some (Except.error (α := α) (z.1, z.2))) = bx (xx2_make (eN e) σ 407 0 (Int32.ofNat L.length)) (fun z6 => bd (xx6_raise (eN e) z6.2 4 (Int32.toInt64 z6.1)) (fun z7 => some (Except.error (z7.1, z7.2)))) := by
    rw [bx_bx]
    congr 1
    funext z
    rw [bx_bd]
    rfl
  rw [← sx, r]
  rcases msg_2 (EV_N E) H.1 (FL_LK H.2.2) (.inl rfl) hL hb len 449 with ⟨a1, a2⟩ | ⟨τ, τm, w', v', a1, a2, a3, a4, a5, a6, a7, a8, a9⟩
  · exact .inr ⟨w, σ, μ, 1101, 3, .inl ⟨rfl, rfl⟩, by rw [a1]; rfl, fun μ' hm => ⟨μ', by rw [a2]; exact hm, mf_rfl⟩, H⟩
  · have V' := SV_fr H.2.1 a6 a8 a9 (fun k hk => gX_R hk) (fun k hk => gM_R hk)
    obtain ⟨l1, l2⟩ := LKg (w := w) (FL_LK H.2.2) a8 a9
    exact .inl ⟨w', τ, τm, 3, v', 449, by rw [a1]; rfl, fun μ' hm => ⟨μ', by rw [a2]; exact hm, mf_rfl⟩, by decide, a6, CL_fr H a5 V' a6 (cds_g a8) a8 a9 hp hq, a3, by rw [a4, l2], mf_F a8 (gX_f (.inr rfl)), g154 a9⟩
theorem msg_L {α : Type} {L : LQ} (E : EVok (lE L)) {w : WD} {σ μ : mS} (H : LM L w σ μ) (h227 : sF μ 227 = 1) {l : List Int32} (hL : hasL (σ.2.2.1 407) 0 l) (hb : bufL μ l) (len : l.length ≤ 4000) : OEL (α := α) L w (bx (xx2_make (lNn L) σ 407 0 (Int32.ofNat l.length)) (fun z6 => bd (xx6_raise (lNn L) z6.2 4 (Int32.toInt64 z6.1)) (fun z7 => some (Except.error (z7.1, z7.2))))) (mm_raiseMessage (lNn L) μ) :=
  OEL_of (msg_OE E H.1 hL hb len) wle_rfl H.2.1 H.2.2 (fun μ2 hm => by
    rw [k_raiseMessage (v := 1) h227 μ2 hm]; decide)
theorem fault_L1 {α : Type} {L : LQ} (E : EVok (lE L)) {w : WD} {σ μ : mS} (H : LM L w σ μ) (h227 : sF μ 227 = 1) {t tm : Nat} (ht : t < 141) (htm : tm < 76) (he : xtx t = mtx tm) (hlen : (mtx tm).length ≤ 100) : OEL (α := α) L w (bx (xx6_fault (lNn L) σ (3000 + t)) (fun z => some (Except.error (z.1, z.2)))) (mm_fault_2 (lNn L) μ tm) :=
  OEL_of (fault_OE E H.1 ht htm he hlen) wle_rfl H.2.1 H.2.2 (fun μ2 hm => by
    rw [k_fault (v := 1) h227 μ2 hm]; decide)
theorem tag_Mq {N : Nat} {Q : Nat → Bool} {L : LQ} {w : WD} {g i : Int32} {σ0 μ0 μ : mS} (H : LC L w g σ0 μ0) (fr : m_fr Q μ0 μ) (q1 : Q 221 = false) (q2 : Q 222 = false) (q3 : Q 141 = false) (q4 : Q 142 = false) (i0 : 1 ≤ i) (i1 : i ≤ 150) : mm_typeOf N μ i = some (bT μ0 i, μ) ∧ mm_valueOf N μ i = some (bV μ0 i, μ) := by
  rw [← bT_fr fr q2 q3 q1, ← bV_fr fr q4 q1]
  have cb := CL_b H.1.1
  obtain ⟨c1, c2⟩ := lc_2 cb.1 cb.2.1 i0 i1
  have h8 : sF μ 221 = (lT L).2.2.2.1 := (mf_F fr q1).trans H.2.2.1.2.2.1
  have h9 : sF μ 222 = ln L := (mf_F fr q2).trans H.2.2.1.2.2.2.1
  simp only [mm_typeOf, mm_typeOf_23, mm_valueOf, bT, bV, sF_fold]
  rw [h8, h9, gd_in (by decide) c1 c2, gd_in (by decide) c1 c2]
  by_cases c : ln L < i
  · rw [if_pos c, if_pos c]; exact ⟨rfl, rfl⟩
  · rw [if_neg c, if_neg c]; exact ⟨rfl, rfl⟩
/-- the value itself is raised -/
theorem err_0 {L : LQ} (E : EVok (lE L)) {w : WD} {σ μ : mS} (H : LC L w 0 σ μ) : OEL (α := mS) L w (xx8_error_b53 (lNn L) 0 σ) (mm_error_72 (lNn L) 0 (md_pi μ 227 1)) := by
  have tl := tag_L (N := lNn L) H (i := 1) (by decide)
  have tm := tag_Mq (N := lNn L) (Q := fun k => k == 227) H (show m_fr (fun k => k == 227) μ (md_pi μ 227 1) from mf_pi mf_rfl rfl) rfl rfl rfl rfl (i := 1) (by decide) (by decide)
  have t := VV_t (arg_V H (i := 1) (by decide))
  rw [xx8_error_b53, if_pos rfl, mm_error_72, if_pos rfl, tl.1, tm.1, bd_so, bd_so]
  dsimp only
  rw [tl.2, tm.1, bd_so, bd_so]
  dsimp only
  by_cases c : aT σ 1 = 0
  · have v := arg_V H (i := 1) (by decide)
    have a0 : aV σ 1 = 0 := VV_z v (by rw [c]; decide)
    have c' : bT μ 1 = 0 := t.1.mp c
    rw [c', if_pos rfl, mm_error_102, bd_id, c, a0]
    exact raise_L E H.1 VV_nil
  · have v := arg_V' H (i := 1) (by decide) (arg_n H c)
    rw [if_neg (fun q => c (t.1.mpr q)), tm.2, bd_so]
    dsimp only
    rw [mm_error_102, bd_id]
    exact raise_L E H.1 v
/-- the line stands ahead of the text -/
theorem err_1 {L : LQ} (E : EVok (lE L)) {w : WD} {σ μ : mS} (H : LC L w 0 σ μ) {ln : Int32} (nz : ln ≠ 0) (h4 : aT σ 1 = 4) : OEL (α := mS) L w (xx8_error_b53 (lNn L) ln σ) (mm_error_72 (lNn L) ln (md_pi μ 227 1)) := by
  have hN := EV_N E
  obtain ⟨t, ht⟩ := numT_ex (Int32.toInt64 ln)
  have tlen := numT_len ht
  have m58 : (58 : Int32) &&& 255 = 58 := by decide
  have m32 : (32 : Int32) &&& 255 = 32 := by decide
  -- the system
  obtain ⟨τ1, e1, e2, e3⟩ := digits_L (N := lNn L) hN (v := 407) (p := 0) (σ := σ) ht vB_407 (by omega)
  have e1' : xx6_digits (lNn L) σ (Int32.toInt64 ln) 407 0 = some (Int32.ofNat t.length, τ1) := by
    rw [Nat.zero_add] at e1; exact e1
  obtain ⟨f1, f2, f3⟩ := wr_1 (b := 58) vB_407 e2 (by omega)
  rw [Nat.zero_add, m58] at f2
  rw [Nat.zero_add] at f1 f3
  generalize h2 : md_ai τ1 407 t.length (vp_nar .byte 58) = τ2 at f2 f3
  have l1 : (t ++ [58]).length = t.length + 1 := by simp
  obtain ⟨g1, g2, g3⟩ := wr_1 (b := 32) vB_407 f2 (by rw [l1]; omega)
  rw [Nat.zero_add, l1, m32] at g2
  rw [Nat.zero_add, l1] at g1 g3
  generalize h3 : md_ai τ2 407 (t.length + 1) (vp_nar .byte 32) = τ3 at g2 g3
  have u3 : m_fr uX σ τ3 := mf_tr (xw_u e3 (by omega)) (mf_tr (xw_u f3 (by omega)) (xw_u g3 (by omega)))
  have H3 : LC L w 0 τ3 μ := LC_u H u3 mf_rfl
  have a4 : aT τ3 1 = 4 := by rw [aT_fr u3 rfl rfl]; exact h4
  obtain ⟨a, b, v1, v2, v0, v3, ra, rb, sz, sz0, sz1, sv, svm, xe⟩ := sz_L H3 (i := 1) (by decide) a4
  have l2 : (t ++ [58] ++ [32]).length = t.length + 2 := by simp
  have xlen : (xL τ3 a).length ≤ 4000 := xL_len sz0 sz1
  obtain ⟨τ4, k1, k2, k3⟩ := copy_L (N := lNn L) (h := a) (v := 407) (p := t.length + 2) sv vB_407 (by decide) (by omega)
  have hx : hasL (τ4.2.2.1 407) 0 (t ++ [58] ++ [32] ++ xL τ3 a) := hasL_app.mpr ⟨hasL_xw g2 k3 (by rw [l2]; omega), by rw [l2, Nat.zero_add]; exact k2⟩
  have u4 : m_fr uX σ τ4 := mf_tr u3 (xw_u k3 (by omega))
  have tl := tag_L (N := lNn L) H3 (i := 1) (by decide)
  -- the reference
  have m1 : m_fr (fun k => uM k || k == 227) μ (md_pi (md_pi μ 227 1) 17 0) := mf_pi (mf_pi mf_rfl rfl) rfl
  have bu : ∀ {z y : mS}, m_fr bK z y → m_fr (fun k => uM k || k == 227) z y := fun h => mf_mono (bK_u h) (fun k hk => (Bool.or_eq_false_iff.mp hk).1)
  obtain ⟨y1, p1, p2, p3⟩ := putNumber_m (N := lNn L) hN ht (bufL_0 (μ := md_pi μ 227 1)) (by simp)
  rw [List.nil_append] at p2
  obtain ⟨y2, q1, q2, q3⟩ := put_m (N := lNn L) (b := 58) p2 (by omega)
  rw [m58] at q2
  obtain ⟨y3, r1, r2, r3⟩ := put_m (N := lNn L) (b := 32) q2 (by rw [l1]; omega)
  rw [m32] at r2
  have m3 : m_fr (fun k => uM k || k == 227) μ y3 := mf_tr m1 (mf_tr (bu p3) (mf_tr (bu q3) (bu r3)))
  have mf : ∀ k, (k < 16 ∨ 17 < k) ∧ (k < 42 ∨ 43 < k) ∧ (k < 223 ∨ 231 < k) → (fun k => uM k || k == 227) k = false := fun k hk => by
    simp only [Bool.or_eq_false_iff, beq_eq_false_iff_ne]
    exact ⟨uM_f (by omega), by omega⟩
  have T3 : TS w τ3 y3 := TS_fr (LC_TS H.1) u3 m3 (fun k hk => uX_f (by omega)) (fun k hk => mf k (by omega))
  have tm := tag_Mq (N := lNn L) H m3 (mf 221 (by omega)) (mf 222 (by omega)) (mf 141 (by omega)) (mf 142 (by omega)) (i := 1) (by decide) (by decide)
  have va : VV w 4 (Int32.toInt64 a) 3 (bV μ 1) := by
    have := arg_V' H3 (i := 1) (by decide) (arg_n H3 (by rw [a4]; decide))
    rw [a4, v1, v0] at this
    exact this
  have tx : TXT τ3 4 (Int32.toInt64 a) (xL τ3 a) := .inr (.inr (.inr (.inr (.inl ⟨rfl, by rw [h_ll]⟩))))
  obtain ⟨y4, s1, s2, s3⟩ := putValue_m (N := lNn L) hN T3 va tx r2 (by rw [l2]; omega)
  have m4 : m_fr (fun k => uM k || k == 227) μ y4 := mf_tr m3 (bu s3)
  have h227 : sF y4 227 = 1 := by
    rw [mf_F s3 rfl, mf_F r3 rfl, mf_F q3 rfl, mf_F p3 rfl]
    simp only [sF_pi, sF_pl, sF_ai, sF_al, sG_pi, sG_pl, sG_ai, sG_al, sI_pi, sI_pl, sI_al, sI_ai1, sI_ai2, sJ_pi, sJ_pl, sJ_ai, sJ_al1, sJ_al2, Nat.reduceEqDiff, if_true, if_false, ne_eq, not_false_eq_true, ite_true, ite_false]
  have M4 : LM L w τ4 y4 := LM_lt H.1 (uX_lt u4) (mf_mono m4 (fun k hk => by
    simp only [ltM, inR, List.contains_cons, List.contains_nil, Bool.or_eq_false_iff, beq_eq_false_iff_ne, Bool.and_eq_false_iff, decide_eq_false_iff_not] at hk
    simp only [Bool.or_eq_false_iff, beq_eq_false_iff_ne]
    exact ⟨uM_f (by omega), by omega⟩)) (mf_F u4 rfl) (mf_F u4 rfl)
  -- together
  have len : (t ++ [58] ++ [32] ++ xL τ3 a).length = t.length + 2 + (xL τ3 a).length := by rw [List.length_append, l2]
  rw [xx8_error_b53, if_neg nz, mm_error_72, if_neg nz, e1', bd_so]
  dsimp only
  rw [gd_oN (by omega) (by decide), oN_cl (by omega), lt, h2, oN_s, gd_oN (by omega) (by decide), oN_cl (by omega), lt, h3, tl.2, bd_so]
  dsimp only
  have e22 : Int32.ofNat t.length + 2 = Int32.ofNat (t.length + 2) := by
    rw [show (2 : Int32) = Int32.ofNat 2 from rfl, oN_add]
  rw [v1, h_ll, e22, k1, bd_so]
  dsimp only
  rw [lt, p1, bd_so, q1, bd_so, r1, bd_so, tm.2, bd_so]
  dsimp only
  rw [s1, bd_so, sF_fold, s2.1, len]
  have c4 : Int32.ofNat (t.length + 2 + (xL τ3 a).length) ≤ 4000 ↔ t.length + 2 + (xL τ3 a).length ≤ 4000 := by
    rw [show (4000 : Int32) = Int32.ofNat 4000 from rfl, oN_le (by omega) (by omega)]
  by_cases c : t.length + 2 + (xL τ3 a).length ≤ 4000
  · rw [if_pos (c4.mpr c), if_pos (c4.mpr c)]
    have := msg_L (α := mS) E M4 h227 hx s2 (by rw [len]; exact c)
    rw [len] at this
    exact OEL_bd this (fun z _ => rfl) (fun z _ => ⟨z, rfl, mf_rfl⟩)
  · rw [if_neg (fun q => c (c4.mp q)), if_neg (fun q => c (c4.mp q))]
    exact OEL_bd (fault_L1 E M4 h227 (t := 109) (tm := 30) (by decide) (by decide) tx_109' (by decide +kernel)) (fun z _ => rfl) (fun z _ => ⟨z, rfl, mf_rfl⟩)
