/-! LAYER 2: a function of the house is at hand: what holds then -/
abbrev LQ : Type := EV × (Int32 → List Int32) × Int32 × Int32 × PL2 × CT × Nat × Int32 × Int32 × Int32
def lE (L : LQ) : EV := L.1
def lX (L : LQ) : Int32 → List Int32 := L.2.1
def lc (L : LQ) : Int32 := L.2.2.1
def ld (L : LQ) : Int32 := L.2.2.2.1
def lR (L : LQ) : PL2 := L.2.2.2.2.1
def lT (L : LQ) : CT := L.2.2.2.2.2.1
def lB (L : LQ) : Nat := L.2.2.2.2.2.2.1
def ln (L : LQ) : Int32 := L.2.2.2.2.2.2.2.1
def lF (L : LQ) : Int32 := L.2.2.2.2.2.2.2.2.1
def lC (L : LQ) : Int32 := L.2.2.2.2.2.2.2.2.2
def lNn (L : LQ) : Nat := eN (lE L)
def LK' (L : LQ) (w : WD) (σ μ : mS) : Prop := CL (lE L) w (lX L) (lc L) (ld L) (lR L) (lT L) σ μ
/-- fuel and calls stay -/
def LM (L : LQ) (w : WD) (σ μ : mS) : Prop := LK' L w σ μ ∧ sF σ 396 = lF L ∧ sF μ 154 = lC L
def LC (L : LQ) (w : WD) (g : Int32) (σ μ : mS) : Prop := LM L w σ μ ∧ (AR w σ μ (lT L).2.2.2.1 (ln L) ∧ ln L ≤ 100) ∧ (lB L < 46 ∧ sF σ 541 = Int32.ofNat (lB L) ∧ sF μ 221 = (lT L).2.2.2.1 ∧ sF μ 222 = ln L ∧ sF μ 227 = 0 ∧ NX w (lX L)) ∧ (GV w σ μ g ∧ g ≤ 100)
/-- it breaks off: an error (the mark is set), or a stop -/
def OEL {α : Type} (L : LQ) (w : WD) (ox : Option (Except (Nat × mS) α)) (om : Option mS) : Prop :=
  (∃ w' τ τm ty v dd, ox = some (.error (1107, τ)) ∧ (∀ μ', (rc_finish (lNn L) dd).2.2.1 τm ty v = some μ' → ∃ μ2, om = some μ2 ∧ m_fr (fun k => k == 227) μ' μ2 ∧ sF μ2 227 ≠ 0) ∧ 440 ≤ dd ∧ wle w w' ∧ LM L w' τ τm ∧ TH w' τ ty v ∧ sF τ 405 = lnH τ (lX L (lc L)))
  ∨ (∃ w' τ τm a why, ((a = 1101 ∧ why = 3) ∨ (a = 1116 ∧ why = 2)) ∧ ox = some (.error (a, τ)) ∧ (∀ μ', mm_breakOff (lNn L) τm why = some μ' → ∃ μ2, om = some μ2 ∧ m_fr tK μ' μ2 ∧ sF μ2 178 ≠ 0) ∧ LK' L w' τ τm)
/-- what a function of the house comes to -/
def LO (L : LQ) (w : WD) (ox : Option (Except (Nat × mS) mS)) (om : Option mS) : Prop := (∃ w' τ τm g, ox = some (.ok τ) ∧ om = some τm ∧ wle w w' ∧ LC L w' g τ τm) ∨ OEL L w ox om
theorem tK_178 {σ τ : mS} (h : m_fr tK σ τ) : sF τ 178 = sF σ 178 := mf_F h rfl
theorem f227_tK {σ τ : mS} (h : m_fr (fun k => k == 227) σ τ) : m_fr tK σ τ := mf_mono h (fun k hk => by
  simp only [tK, inR, List.contains_cons, List.contains_nil, Bool.or_eq_false_iff, beq_eq_false_iff_ne, Bool.and_eq_false_iff, decide_eq_false_iff_not] at hk
  simp only [beq_eq_false_iff_ne]; omega)
theorem OEL_of {α : Type} {L : LQ} {w w0 : WD} {σ μ : mS} {ox : Option (Except (Nat × mS) α)} {om : Option mS} (H : OE (lE L) w (lX L) (lc L) (ld L) (lR L) (lT L) σ μ (fun z => z) ox om) (wl : wle w0 w) (hF : sF σ 396 = lF L) (hC : sF μ 154 = lC L) (h : ∀ μ2, om = some μ2 → sF μ2 227 ≠ 0) : OEL L w0 ox om := by
  rcases H with ⟨w', τ, τm, ty, v, dd, a1, a2, a3, a4, a5, a6, a7, a8, a9⟩ | ⟨w', τ, τm, a, why, a0, a1, a2, a3⟩
  · refine .inl ⟨w', τ, τm, ty, v, dd, a1, fun μ' hm => ?_, a3, wle_tr wl a4, ⟨a5, a8.trans hF, a9.trans hC⟩, a6, a7⟩
    obtain ⟨μ2, b1, b2⟩ := a2 μ' hm
    exact ⟨μ2, b1, b2, h μ2 b1⟩
  · refine .inr ⟨w', τ, τm, a, why, a0, a1, fun μ' hm => ?_, a3⟩
    obtain ⟨μ2, b1, b2⟩ := a2 μ' hm
    exact ⟨μ2, b1, b2, by rw [tK_178 b2]; exact o_breakOff hm⟩
/-- the mark is set behind -/
theorem OEL_k {α : Type} {L : LQ} {w w0 : WD} {σ μ : mS} {ox : Option (Except (Nat × mS) α)} {om : Option mS} {k : mS → Option mS} (H : OE (lE L) w (lX L) (lc L) (ld L) (lR L) (lT L) σ μ (fun z => z) ox om) (wl : wle w0 w) (hF : sF σ 396 = lF L) (hC : sF μ 154 = lC L) (hk : ∀ z, ∃ z', k z = some z' ∧ m_fr (fun k => k == 227) z z' ∧ sF z' 227 ≠ 0) : OEL L w0 ox (bd om k) := by
  rcases H with ⟨w', τ, τm, ty, v, dd, a1, a2, a3, a4, a5, a6, a7, a8, a9⟩ | ⟨w', τ, τm, a, why, a0, a1, a2, a3⟩
  · refine .inl ⟨w', τ, τm, ty, v, dd, a1, fun μ' hm => ?_, a3, wle_tr wl a4, ⟨a5, a8.trans hF, a9.trans hC⟩, a6, a7⟩
    obtain ⟨μ2, b1, b2⟩ := a2 μ' hm
    obtain ⟨z', c1, c2, c3⟩ := hk μ2
    exact ⟨z', by rw [b1]; exact c1, mf_tr b2 c2, c3⟩
  · refine .inr ⟨w', τ, τm, a, why, a0, a1, fun μ' hm => ?_, a3⟩
    obtain ⟨μ2, b1, b2⟩ := a2 μ' hm
    obtain ⟨z', c1, c2, c3⟩ := hk μ2
    exact ⟨z', by rw [b1]; exact c1, mf_tr b2 (f227_tK c2), by rw [mf_F c2 rfl, tK_178 b2]; exact o_breakOff hm⟩
theorem OEL_bx {α β : Type} {L : LQ} {w : WD} {ox : Option (Except (Nat × mS) α)} {om : Option mS} {f : α → Option (Except (Nat × mS) β)} (H : OEL L w ox om) : OEL L w (bx ox f) om := by
  rcases H with ⟨w', τ, τm, ty, v, dd, a1, a2⟩ | ⟨w', τ, τm, a, why, a0, a1, a2⟩
  · exact .inl ⟨w', τ, τm, ty, v, dd, by rw [a1]; rfl, a2⟩
  · exact .inr ⟨w', τ, τm, a, why, a0, by rw [a1]; rfl, a2⟩
/-- what the reference does behind -/
theorem OEL_bd {α : Type} {L : LQ} {w : WD} {ox : Option (Except (Nat × mS) α)} {om : Option mS} {k : mS → Option mS} (H : OEL L w ox om) (h1 : ∀ z, sF z 227 ≠ 0 → k z = some z) (h2 : ∀ z, sF z 178 ≠ 0 → ∃ z', k z = some z' ∧ m_fr tK z z') : OEL L w ox (bd om k) := by
  rcases H with ⟨w', τ, τm, ty, v, dd, a1, a2, a3⟩ | ⟨w', τ, τm, a, why, a0, a1, a2, a3⟩
  · refine .inl ⟨w', τ, τm, ty, v, dd, a1, fun μ' hm => ?_, a3⟩
    obtain ⟨μ2, b1, b2, b3⟩ := a2 μ' hm
    exact ⟨μ2, by rw [b1]; exact h1 μ2 b3, b2, b3⟩
  · refine .inr ⟨w', τ, τm, a, why, a0, a1, fun μ' hm => ?_, a3⟩
    obtain ⟨μ2, b1, b2, b3⟩ := a2 μ' hm
    obtain ⟨z', c1, c2⟩ := h2 μ2 b3
    exact ⟨z', by rw [b1]; exact c1, mf_tr b2 c2, by rw [tK_178 c2]; exact b3⟩
theorem OEL_wl {α : Type} {L : LQ} {w w0 : WD} {ox : Option (Except (Nat × mS) α)} {om : Option mS} (H : OEL L w ox om) (wl : wle w0 w) : OEL L w0 ox om := by
  rcases H with ⟨w', τ, τm, ty, v, dd, a1, a2, a3, a4, a5⟩ | ⟨w', τ, τm, a, why, a0, a1, a2⟩
  · exact .inl ⟨w', τ, τm, ty, v, dd, a1, a2, a3, wle_tr wl a4, a5⟩
  · exact .inr ⟨w', τ, τm, a, why, a0, a1, a2⟩
theorem LO_wl {L : LQ} {w w0 : WD} {ox : Option (Except (Nat × mS) mS)} {om : Option mS} (H : LO L w ox om) (wl : wle w0 w) : LO L w0 ox om := by
  rcases H with ⟨w', τ, τm, g, a1, a2, a3, a4⟩ | H
  · exact .inl ⟨w', τ, τm, g, a1, a2, wle_tr wl a3, a4⟩
  · exact .inr (OEL_wl H wl)
theorem LO_ok {L : LQ} {w : WD} {g : Int32} {τ τm : mS} (h : LC L w g τ τm) : LO L w (some (.ok τ)) (some τm) := .inl ⟨w, τ, τm, g, rfl, rfl, wle_rfl, h⟩
/-- arguments -/
def aT (σ : mS) (i : Int32) : Int32 := if sF σ 399 < i then 0 else sI σ 397 (i - 1)
def aV (σ : mS) (i : Int32) : Int64 := if sF σ 399 < i then 0 else sJ σ 398 (i - 1)
def bT (μ : mS) (i : Int32) : Int32 := if sF μ 222 < i then 0 else sI μ 141 (sF μ 221 + i)
def bV (μ : mS) (i : Int32) : Int64 := sJ μ 142 (sF μ 221 + i)
theorem aT_fr {P : Nat → Bool} {σ τ : mS} (fr : m_fr P σ τ) (h1 : P 399 = false) (h2 : P 397 = false) : aT τ = aT σ := by
  funext i; simp only [aT]; rw [mf_F fr h1, mf_I fr h2]
theorem aV_fr {P : Nat → Bool} {σ τ : mS} (fr : m_fr P σ τ) (h1 : P 399 = false) (h2 : P 398 = false) : aV τ = aV σ := by
  funext i; simp only [aV]; rw [mf_F fr h1, mf_J fr h2]
theorem bT_fr {Q : Nat → Bool} {σ τ : mS} (fr : m_fr Q σ τ) (h1 : Q 222 = false) (h2 : Q 141 = false) (h3 : Q 221 = false) : bT τ = bT σ := by
  funext i; simp only [bT]; rw [mf_F fr h1, mf_I fr h2, mf_F fr h3]
theorem bV_fr {Q : Nat → Bool} {σ τ : mS} (fr : m_fr Q σ τ) (h2 : Q 142 = false) (h3 : Q 221 = false) : bV τ = bV σ := by
  funext i; simp only [bV]; rw [mf_J fr h2, mf_F fr h3]
theorem lc_1 {n i : Int32} (h : ¬ n < i) (h1 : n ≤ 100) (i0 : 1 ≤ i) : 0 ≤ i - 1 ∧ i - 1 < 160 ∧ i - 1 < n := ⟨by lia, by lia, by lia⟩
theorem lc_2 {p i : Int32} (h0 : 0 ≤ p) (h1 : p ≤ 470000) (i0 : 1 ≤ i) (i1 : i ≤ 150) : 0 ≤ p + i ∧ p + i < 500000 := ⟨by lia, by lia⟩
theorem lc_3 {p i : Int32} : p + 1 + (i - 1) = p + i := by lia
theorem tag_L {L : LQ} {w : WD} {g i : Int32} {σ μ : mS} (H : LC L w g σ μ) (i0 : 1 ≤ i) {N : Nat} : xx8_tag N σ i = some (aT σ i, σ) ∧ xx8_value N σ i = some (aV σ i, σ) := by
  obtain ⟨⟨h1, h2, h3⟩, ⟨h4, h5⟩, _⟩ := H
  simp only [xx8_tag, xx8_tag_b26, xx8_value, xx8_value_b26, aT, aV, sF_fold]
  rw [h4.1]
  by_cases c : ln L < i
  · rw [if_pos c, if_pos c, if_pos c, if_pos c]; exact ⟨rfl, rfl⟩
  · obtain ⟨c1, c2, c3⟩ := lc_1 c h5 i0
    rw [if_neg c, if_neg c, if_neg c, if_neg c, gd_in (by decide) c1 c2, gd_in (by decide) c1 c2]
    exact ⟨rfl, rfl⟩
theorem tag_M {L : LQ} {w : WD} {g i : Int32} {σ μ : mS} (H : LC L w g σ μ) (i0 : 1 ≤ i) (i1 : i ≤ 150) {N : Nat} : mm_typeOf N μ i = some (bT μ i, μ) ∧ mm_valueOf N μ i = some (bV μ i, μ) := by
  obtain ⟨⟨h1, h2, h3⟩, ⟨h4, h5⟩, ⟨h6, h7, h8, h9, _⟩, _⟩ := H
  have cb := CL_b h1
  obtain ⟨c1, c2⟩ := lc_2 cb.1 cb.2.1 i0 i1
  simp only [mm_typeOf, mm_typeOf_23, mm_valueOf, bT, bV, sF_fold]
  rw [h8, h9, gd_in (by decide) c1 c2, gd_in (by decide) c1 c2]
  by_cases c : ln L < i
  · rw [if_pos c, if_pos c]; exact ⟨rfl, rfl⟩
  · rw [if_neg c, if_neg c]; exact ⟨rfl, rfl⟩
theorem VV_nil {w : WD} : VV w 0 0 0 0 := .inl ⟨rfl, rfl, rfl, rfl⟩
theorem arg_V {L : LQ} {w : WD} {g i : Int32} {σ μ : mS} (H : LC L w g σ μ) (i0 : 1 ≤ i) : VV w (aT σ i) (aV σ i) (bT μ i) (if ln L < i then 0 else bV μ i) := by
  obtain ⟨⟨h1, h2, h3⟩, ⟨h4, h5⟩, ⟨h6, h7, h8, h9, _⟩, _⟩ := H
  simp only [aT, aV, bT, bV]
  rw [h4.1, h8, h9]
  by_cases c : ln L < i
  · rw [if_pos c, if_pos c, if_pos c, if_pos c]; exact VV_nil
  · obtain ⟨c1, c2, c3⟩ := lc_1 c h5 i0
    rw [if_neg c, if_neg c, if_neg c, if_neg c]
    have := h4.2.2.2.2 (i - 1) c1 c3
    rw [lc_3] at this
    exact this
/-- an argument that is not nil is there -/
theorem arg_n {L : LQ} {w : WD} {g i : Int32} {σ μ : mS} (H : LC L w g σ μ) (h : aT σ i ≠ 0) : ¬ ln L < i := fun c => h (by
  simp only [aT]; rw [H.2.1.1.1, if_pos c])
theorem arg_V' {L : LQ} {w : WD} {g i : Int32} {σ μ : mS} (H : LC L w g σ μ) (i0 : 1 ≤ i) (h : ¬ ln L < i) : VV w (aT σ i) (aV σ i) (bT μ i) (bV μ i) := by
  have := arg_V H i0
  rw [if_neg h] at this
  exact this
/-- fields that do not count: the system's rows for bytes and for sorting; the reference's -/
def uX (k : Nat) : Bool := k == 407 || inR 520 522 k || inR 538 540 k
def uM (k : Nat) : Bool := [16, 17, 42, 43].contains k || inR 223 226 k || inR 228 231 k
theorem uX_f {k : Nat} (h : k ≠ 407 ∧ (k < 520 ∨ 522 < k) ∧ (k < 538 ∨ 540 < k)) : uX k = false := by
  simp only [uX, inR, List.contains_cons, List.contains_nil, Bool.or_eq_false_iff, beq_eq_false_iff_ne, Bool.and_eq_false_iff, decide_eq_false_iff_not]; omega
theorem uM_f {k : Nat} (h : (k < 16 ∨ 17 < k) ∧ (k < 42 ∨ 43 < k) ∧ (k < 223 ∨ 226 < k) ∧ (k < 228 ∨ 231 < k)) : uM k = false := by
  simp only [uM, inR, List.contains_cons, List.contains_nil, Bool.or_eq_false_iff, beq_eq_false_iff_ne, Bool.and_eq_false_iff, decide_eq_false_iff_not]
  repeat' apply And.intro
  all_goals first | trivial | omega
theorem uX_lt {σ τ : mS} (h : m_fr uX σ τ) : m_fr ltX σ τ := mf_mono h (fun k hk => by
  simp only [ltX, inR, List.contains_cons, List.contains_nil, Bool.or_eq_false_iff, beq_eq_false_iff_ne, Bool.and_eq_false_iff, decide_eq_false_iff_not] at hk
  exact uX_f (by omega))
theorem uM_lt {σ τ : mS} (h : m_fr uM σ τ) : m_fr ltM σ τ := mf_mono h (fun k hk => by
  simp only [ltM, inR, List.contains_cons, List.contains_nil, Bool.or_eq_false_iff, beq_eq_false_iff_ne, Bool.and_eq_false_iff, decide_eq_false_iff_not] at hk
  exact uM_f (by omega))
/-- the rest of LC, while the heap changes -/
theorem LC_fr {P Q : Nat → Bool} {L : LQ} {w w' : WD} {g : Int32} {σ μ τ τm : mS} (H : LC L w g σ μ) (C : LM L w' τ τm) (wl : wle w w') (fr : m_fr P σ τ) (frm : m_fr Q μ τm) (hp : ∀ k, (397 ≤ k ∧ k ≤ 402) ∨ k = 541 → P k = false) (hq : ∀ k, (141 ≤ k ∧ k ≤ 143) ∨ (188 ≤ k ∧ k ≤ 190) ∨ k = 221 ∨ k = 222 ∨ k = 227 → Q k = false) : LC L w' g τ τm :=
  ⟨C, ⟨AR_fr H.2.1.1 wl fr frm (hp _ (by omega)) (hp _ (by omega)) (hp _ (by omega)) (hq _ (by omega)) (hq _ (by omega)) (hq _ (by omega)), H.2.1.2⟩, ⟨H.2.2.1.1, by rw [mf_F fr (hp 541 (by omega))]; exact H.2.2.1.2.1, by rw [mf_F frm (hq 221 (by omega))]; exact H.2.2.1.2.2.1, by rw [mf_F frm (hq 222 (by omega))]; exact H.2.2.1.2.2.2.1, by rw [mf_F frm (hq 227 (by omega))]; exact H.2.2.1.2.2.2.2.1, NX_wl H.2.2.1.2.2.2.2.2 wl⟩, ⟨GV_fr H.2.2.2.1 wl fr frm (hp _ (by omega)) (hp _ (by omega)) (hp _ (by omega)) (hq _ (by omega)) (hq _ (by omega)) (hq _ (by omega)), H.2.2.2.2⟩⟩
theorem LM_lt {L : LQ} {w : WD} {σ μ τ τm : mS} (H : LM L w σ μ) (fr : m_fr ltX σ τ) (frm : m_fr ltM μ τm) (h396 : sF τ 396 = sF σ 396) (h406 : sF τ 406 = sF σ 406) : LM L w τ τm := ⟨CL_lt H.1 fr frm (by rw [h406]; exact CL_0 H.1), by rw [h396]; exact H.2.1, by rw [mf_F frm rfl]; exact H.2.2⟩
theorem LC_u {L : LQ} {w : WD} {g : Int32} {σ μ τ τm : mS} (H : LC L w g σ μ) (fr : m_fr uX σ τ) (frm : m_fr uM μ τm) : LC L w g τ τm :=
  LC_fr H (LM_lt H.1 (uX_lt fr) (uM_lt frm) (mf_F fr rfl) (mf_F fr rfl)) wle_rfl fr frm (fun k hk => uX_f (by omega)) (fun k hk => uM_f (by omega))
theorem vK_lt {σ τ : mS} (h : m_fr vK σ τ) : m_fr ltX σ τ := mf_mono h (fun k hk => by
  simp only [ltX, inR, Bool.or_eq_false_iff, Bool.and_eq_false_iff, decide_eq_false_iff_not] at hk
  simp only [vK, List.contains_cons, List.contains_nil, Bool.or_eq_false_iff, beq_eq_false_iff_ne]
  repeat' apply And.intro
  all_goals first | trivial | omega)
theorem vM_lt {σ τ : mS} (h : m_fr vM σ τ) : m_fr ltM σ τ := mf_mono h (fun k hk => by
  simp only [ltM, inR, List.contains_cons, List.contains_nil, Bool.or_eq_false_iff, beq_eq_false_iff_ne, Bool.and_eq_false_iff, decide_eq_false_iff_not] at hk
  simp only [vM, List.contains_cons, List.contains_nil, Bool.or_eq_false_iff, beq_eq_false_iff_ne]
  repeat' apply And.intro
  all_goals first | trivial | omega)
/-- one more is given -/
theorem give_L {N : Nat} {L : LQ} {w : WD} {g tx tm : Int32} {vx vm : Int64} {σ μ : mS} (H : LC L w g σ μ) (g1 : g < 100) (v : VV w tx vx tm vm) : ∃ τ τm, xx6_giveOne N σ tx vx = some (.ok τ) ∧ mm_giveValue N μ tm vm = some τm ∧ LC L w (g + 1) τ τm ∧ m_fr vK σ τ ∧ m_fr vM μ τm := by
  obtain ⟨τ, τm, a1, a2, a3, a4, a5⟩ := give1_2 (N := N) H.2.2.2.1 g1 v
  refine ⟨τ, τm, a1, a2, ⟨LM_lt H.1 (vK_lt a4) (vM_lt a5) (mf_F a4 rfl) (mf_F a4 rfl), ⟨AR_fr H.2.1.1 wle_rfl a4 a5 rfl rfl rfl rfl rfl rfl, H.2.1.2⟩, ⟨H.2.2.1.1, by rw [mf_F a4 rfl]; exact H.2.2.1.2.1, by rw [mf_F a5 rfl]; exact H.2.2.1.2.2.1, by rw [mf_F a5 rfl]; exact H.2.2.1.2.2.2.1, by rw [mf_F a5 rfl]; exact H.2.2.1.2.2.2.2.1, H.2.2.1.2.2.2.2.2⟩, ⟨a3, by lia⟩⟩, a4, a5⟩
/-- unless -/
theorem unless_0 {N : Nat} {z : mS} : mm_unless N z 0 = some (md_pi z 227 1) := by
  simp only [mm_unless, mm_unless_12, mm_unless_17, lt, gd_z1, if_true, ite_self]
theorem pi_smv {σ : mS} {k : Nat} {v : Int32} (h : sF σ k = v) : md_pi σ k v = σ := by subst h; exact pi_same
theorem unless_1 {N : Nat} {z : mS} (h : sF z 227 = 0) : mm_unless N z 1 = some z := by
  simp only [mm_unless, mm_unless_12, mm_unless_17, lt, gd_z0, sF_fold]
  rw [if_pos h, if_neg (by decide), pi_smv h]
theorem u227 {z : mS} : m_fr (fun k => k == 227) z (md_pi z 227 1) ∧ sF (md_pi z 227 1) 227 ≠ 0 := ⟨mf_pi mf_rfl rfl, by simp only [sF_pi, sF_pl, sF_ai, sF_al, sG_pi, sG_pl, sG_ai, sG_al, sI_pi, sI_pl, sI_al, sI_ai1, sI_ai2, sJ_pi, sJ_pl, sJ_ai, sJ_al1, sJ_al2, Nat.reduceEqDiff, if_true, if_false, ne_eq, not_false_eq_true, ite_true, ite_false]; decide⟩
/-- fault(message) where the mark was set ahead -/
theorem fault_L {α : Type} {L : LQ} (E : EVok (lE L)) {w : WD} {σ μ : mS} (H : LM L w σ μ) {t tm : Nat} (ht : t < 141) (htm : tm < 76) (he : xtx t = mtx tm) (hlen : (mtx tm).length ≤ 100) : OEL (α := α) L w (bx (xx6_fault (lNn L) σ (3000 + t)) (fun z => some (Except.error (z.1, z.2)))) (mm_fault_2 (lNn L) (md_pi μ 227 1) tm) := by
  have C : CL (lE L) w (lX L) (lc L) (ld L) (lR L) (lT L) σ (md_pi μ 227 1) := CL_lt H.1 mf_rfl (mf_pi mf_rfl rfl) (CL_0 H.1)
  exact OEL_of (fault_OE E C ht htm he hlen) wle_rfl H.2.1 (by simp only [sF_pi, sF_pl, sF_ai, sF_al, sG_pi, sG_pl, sG_ai, sG_al, sI_pi, sI_pl, sI_al, sI_ai1, sI_ai2, sJ_pi, sJ_pl, sJ_ai, sJ_al1, sJ_al2, Nat.reduceEqDiff, if_true, if_false, ne_eq, not_false_eq_true, ite_true, ite_false]; exact H.2.2) (fun μ2 hm => by
    rw [k_fault (v := 1) (by simp only [sF_pi, sF_pl, sF_ai, sF_al, sG_pi, sG_pl, sG_ai, sG_al, sI_pi, sI_pl, sI_al, sI_ai1, sI_ai2, sJ_pi, sJ_pl, sJ_ai, sJ_al1, sJ_al2, Nat.reduceEqDiff, if_true, if_false, ne_eq, not_false_eq_true, ite_true, ite_false]) μ2 hm]; decide)
/-- fault(message), the mark set behind -/
theorem fault_Lk {α : Type} {L : LQ} (E : EVok (lE L)) {w : WD} {σ μ : mS} (H : LM L w σ μ) {t tm : Nat} (ht : t < 141) (htm : tm < 76) (he : xtx t = mtx tm) (hlen : (mtx tm).length ≤ 100) {k : mS → Option mS} (hk : ∀ z, ∃ z', k z = some z' ∧ m_fr (fun k => k == 227) z z' ∧ sF z' 227 ≠ 0) : OEL (α := α) L w (bx (xx6_fault (lNn L) σ (3000 + t)) (fun z => some (Except.error (z.1, z.2)))) (bd (mm_fault_2 (lNn L) μ tm) k) :=
  OEL_k (fault_OE E H.1 ht htm he hlen) wle_rfl H.2.1 H.2.2 hk
/-- a bad argument -/
theorem bad_L {α : Type} {L : LQ} (E : EVok (lE L)) {w : WD} {g i lib : Int32} {σ μ : mS} (H : LC L w g σ μ) (hl : lib = Int32.ofNat (lB L)) {k : mS → Option mS} (hk : ∀ z, ∃ z', k z = some z' ∧ m_fr (fun k => k == 227) z z' ∧ sF z' 227 ≠ 0) : OEL (α := α) L w (bx (xx8_bad (lNn L) σ i) (fun z => some (Except.error (z.1, z.2)))) (bd (mm_bad (lNn L) μ i lib) k) := by
  rw [hl]
  exact OEL_k (bad_OE E H.1.1 H.2.2.1.1 H.2.2.1.2.1) wle_rfl H.1.2.1 H.1.2.2 hk
theorem bd_so {α β : Type} {z : α} {f : α → Option β} : bd (some z) f = f z := nrf rfl
theorem bx_so {α β : Type} {z : α} {f : α → Option (Except (Nat × mS) β)} : bx (some (.ok z)) f = f z := nrf rfl
theorem bd_bd {α β γ : Type} {x : Option α} {f : α → Option β} {k : β → Option γ} : bd (bd x f) k = bd x (fun z => bd (f z) k) := by cases x <;> rfl
theorem bx_bx {α β γ : Type} {x : Option (Except (Nat × mS) α)} {f : α → Option (Except (Nat × mS) β)} {k : β → Option (Except (Nat × mS) γ)} : bx (bx x f) k = bx x (fun z => bx (f z) k) := by
  cases x with
  | none => rfl
  | some y => cases y <;> rfl
theorem bx_bd {α β γ : Type} {x : Option α} {f : α → Option (Except (Nat × mS) β)} {k : β → Option (Except (Nat × mS) γ)} : bx (bd x f) k = bd x (fun z => bx (f z) k) := by cases x <;> rfl
/-- tests of arguments -/
theorem any_L {α : Type} {L : LQ} (E : EVok (lE L)) {w : WD} {g i lib : Int32} {σ μ : mS} (H : LC L w g σ μ) (hl : lib = Int32.ofNat (lB L)) {f : mS → Option (Except (Nat × mS) α)} {k : Int32 × mS → Option mS} (hk : ∀ z, ∃ z', k (0, z) = some z' ∧ m_fr (fun k => k == 227) z z' ∧ sF z' 227 ≠ 0) : (i ≤ ln L ∧ xx8_any (lNn L) σ i = some (.ok σ) ∧ mm_isThere (lNn L) μ i lib = some (1, μ)) ∨ OEL (α := α) L w (bx (xx8_any (lNn L) σ i) f) (bd (mm_isThere (lNn L) μ i lib) k) := by
  by_cases c : i ≤ ln L
  · refine .inl ⟨c, ?_, ?_⟩
    · simp only [xx8_any, sF_fold]; rw [H.2.1.1.1, if_pos c]
    · simp only [mm_isThere, sF_fold, gd_z1]; rw [H.2.2.1.2.2.2.1, if_pos c]
  · refine .inr ?_
    simp only [xx8_any, mm_isThere, sF_fold, gd_z0]
    rw [H.2.1.1.1, H.2.2.1.2.2.2.1, if_neg c, if_neg c, bd_bd]
    exact OEL_bx (bad_L E H hl hk)
theorem VV_t {w : WD} {tx tm : Int32} {vx vm : Int64} (v : VV w tx vx tm vm) : (tx = 0 ↔ tm = 0) ∧ (tx = 3 ↔ tm = 2) ∧ (tx = 4 ↔ tm = 3) ∧ (tx = 5 ↔ tm = 4) ∧ (tx = 6 ↔ tm = 5) ∧ (tx = 7 ↔ tm = 6) := (VV_tag v).2.2.2.2.imp_right (fun h => ⟨h.1, h.2.1, h.2.2.1, h.2.2.2.1, h.2.2.2.2.1⟩)
/-- a number -/
theorem num_L {α : Type} {L : LQ} (E : EVok (lE L)) {w : WD} {g i lib : Int32} {σ μ : mS} (H : LC L w g σ μ) (i0 : 1 ≤ i) (i1 : i ≤ 150) (hl : lib = Int32.ofNat (lB L)) {f : Int64 × mS → Option (Except (Nat × mS) α)} {k : Int32 × mS → Option mS} (hk : ∀ z, ∃ z', k (0, z) = some z' ∧ m_fr (fun k => k == 227) z z' ∧ sF z' 227 ≠ 0) : (aT σ i = 3 ∧ bT μ i = 2 ∧ aV σ i = bV μ i ∧ xx8_number (lNn L) σ i = some (.ok (bV μ i, σ)) ∧ mm_isOf (lNn L) μ i 2 lib = some (1, μ)) ∨ OEL (α := α) L w (bx (xx8_number (lNn L) σ i) f) (bd (mm_isOf (lNn L) μ i 2 lib) k) := by
  have t := VV_t (arg_V H i0)
  simp only [xx8_number, mm_isOf, (tag_L H i0).1, (tag_L H i0).2, (tag_M H i0 i1).1, bd_so, gd_z1, gd_z0]
  by_cases c : aT σ i = 3
  · have c' := t.2.1.mp c
    have nn := arg_n H (i := i) (by rw [c]; decide)
    have v := arg_V' H i0 nn
    have e : aV σ i = bV μ i := by
      rcases v with v | v | v | v | v | v | v | v | v
      case inr.inr.inr.inl => exact v.2.2
      all_goals (obtain ⟨q, _⟩ := v; rw [c] at q; exact absurd q (by decide))
    rw [if_pos c, if_pos c']
    exact .inl ⟨c, c', e, by rw [e], rfl⟩
  · rw [if_neg c, if_neg (fun z => c (t.2.1.mpr z)), bd_bd]
    refine .inr ?_
    exact OEL_bx (bad_L E H hl hk)
/-- a table -/
theorem VV_tb {w : WD} {tm : Int32} {vx vm : Int64} (v : VV w 5 vx tm vm) : (vx.toInt32, vm.toInt32) ∈ wT w ∧ vx = Int32.toInt64 vx.toInt32 ∧ vm = Int32.toInt64 vm.toInt32 := by
  rcases v with v | v | v | v | v | ⟨_, _, a, b, v1, v2, v3⟩ | v | v | v
  case inr.inr.inr.inr.inr.inl => rw [v1, v2, h_ll, h_ll]; exact ⟨v3, rfl, rfl⟩
  all_goals (obtain ⟨q, _⟩ := v; exact absurd q (by decide))
theorem tab_L {α : Type} {L : LQ} (E : EVok (lE L)) {w : WD} {g i lib : Int32} {σ μ : mS} (H : LC L w g σ μ) (i0 : 1 ≤ i) (i1 : i ≤ 150) (hl : lib = Int32.ofNat (lB L)) {f : Int32 × mS → Option (Except (Nat × mS) α)} {k : Int32 × mS → Option mS} (hk : ∀ z, ∃ z', k (0, z) = some z' ∧ m_fr (fun k => k == 227) z z' ∧ sF z' 227 ≠ 0) : (∃ a b, (a, b) ∈ wT w ∧ aT σ i = 5 ∧ bT μ i = 4 ∧ aV σ i = Int32.toInt64 a ∧ bV μ i = Int32.toInt64 b ∧ xx8_table (lNn L) σ i = some (.ok (a, σ)) ∧ mm_isOf (lNn L) μ i 4 lib = some (1, μ)) ∨ OEL (α := α) L w (bx (xx8_table (lNn L) σ i) f) (bd (mm_isOf (lNn L) μ i 4 lib) k) := by
  have t := VV_t (arg_V H i0)
  simp only [xx8_table, mm_isOf, (tag_L H i0).1, (tag_L H i0).2, (tag_M H i0 i1).1, bd_so, gd_z1, gd_z0]
  by_cases c : aT σ i = 5
  · have c' := t.2.2.2.1.mp c
    have v := arg_V' H i0 (arg_n H (i := i) (by rw [c]; decide))
    rw [c] at v
    obtain ⟨v1, v2, v3⟩ := VV_tb v
    rw [if_pos c, if_pos c']
    exact .inl ⟨_, _, v1, c, c', v2, v3, rfl, rfl⟩
  · rw [if_neg c, if_neg (fun z => c (t.2.2.2.1.mpr z)), bd_bd]
    refine .inr ?_
    exact OEL_bx (bad_L E H hl hk)
/-- a number or nothing -/
theorem opt_L {α : Type} {L : LQ} (E : EVok (lE L)) {w : WD} {g i lib : Int32} {o : Int64} {σ μ : mS} (H : LC L w g σ μ) (i0 : 1 ≤ i) (i1 : i ≤ 150) (hl : lib = Int32.ofNat (lB L)) {f : Int64 × mS → Option (Except (Nat × mS) α)} {k : Int32 × mS → Option mS} (hk : ∀ z, ∃ z', k (0, z) = some z' ∧ m_fr (fun k => k == 227) z z' ∧ sF z' 227 ≠ 0) : (∃ v, (∀ N, mm_numberOr N μ i o = some (v, μ)) ∧ xx8_number_2 (lNn L) σ i o = some (.ok (v, σ)) ∧ mm_mayBeNumber (lNn L) μ i lib = some (1, μ) ∧ (aT σ i = 0 ∧ v = o ∧ bT μ i = 0 ∨ aT σ i = 3 ∧ bT μ i = 2 ∧ v = bV μ i)) ∨ OEL (α := α) L w (bx (xx8_number_2 (lNn L) σ i o) f) (bd (mm_mayBeNumber (lNn L) μ i lib) k) := by
  have t := VV_t (arg_V H i0)
  simp only [xx8_number_2, xx8_number_2_b17, xx8_number, mm_mayBeNumber, mm_mayBeNumber_25, mm_numberOr, mm_numberOr_18, (tag_L H i0).1, (tag_L H i0).2, (tag_M H i0 i1).1, (tag_M H i0 i1).2, bd_so, gd_z1, gd_z0]
  by_cases c0 : aT σ i = 0
  · have c' := t.1.mp c0
    have c2 : ¬ bT μ i = 2 := by rw [c']; decide
    simp only [if_pos c0, if_pos c', if_neg c2]
    exact .inl ⟨o, fun N => rfl, rfl, by first | trivial | rfl, .inl ⟨c0, rfl, c'⟩⟩
  · have c0' : ¬ bT μ i = 0 := fun z => c0 (t.1.mpr z)
    simp only [if_neg c0, if_neg c0']
    by_cases c : aT σ i = 3
    · have c' := t.2.1.mp c
      have v := arg_V' H i0 (arg_n H c0)
      have e : aV σ i = bV μ i := by
        rcases v with v | v | v | v | v | v | v | v | v
        case inr.inr.inr.inl => exact v.2.2
        all_goals (obtain ⟨q, _⟩ := v; rw [c] at q; exact absurd q (by decide))
      simp only [if_pos c, if_pos c']
      refine .inl ⟨bV μ i, fun N => rfl, ?_, by first | trivial | rfl, .inr ⟨c, c', rfl⟩⟩
      rw [bx_so, e]
    · have c2 : ¬ bT μ i = 2 := fun z => c (t.2.1.mpr z)
      simp only [if_neg c, if_neg c2, bd_bd]
      refine .inr ?_
      exact OEL_bx (OEL_bx (bad_L E H hl hk))
