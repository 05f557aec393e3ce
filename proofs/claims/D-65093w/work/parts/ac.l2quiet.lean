/-! LAYER 2: a run is over: nothing runs -/
def QU (S : SR) (K : Int32 → Int32 → Int32 → Prop) (q : Int) (w : WD) (xf : Int32 → List Int32) (σ μ : mS) : Prop :=
  (RH K (q + fQ μ) w σ μ ∧ q + 122 ≤ 1000000000) ∧ ZS w σ ∧ HO w σ μ ∧ XF w xf σ ∧ xf 0 = [] ∧ CO S w xf [] σ μ ∧ (sF σ 358 = sF μ 155 ∧ 0 ≤ sF σ 358 ∧ sF σ 358 ≤ 200 ∧ (sF σ 358).toInt = (fAll w xf).length ∧ (sF μ 155).toInt = kSum w μ)
theorem tI_dec {k n : Int32} (h : k < n) : (n - 1).toInt = n.toInt - 1 := by
  rw [tI_lt] at h
  have := tI_rng k
  have := tI_rng n
  rw [tI_sub] <;> simp only [show (1 : Int32).toInt = 1 from rfl] <;> omega
theorem LK_len {σ : mS} {ff : Int32 → Nat → Int32} {k0 : Int32} : ∀ {fl : List Int32} {n : Int32}, LK σ ff k0 fl n → n.toInt = k0.toInt + fl.length
  | [], n, h => by
    have : n = k0 := h
    subst this; simp
  | f :: fl, n, h => by
    obtain ⟨h1, _, _, h4⟩ := h
    have a := LK_len h4
    have b := tI_dec h1
    simp only [List.length_cons]
    omega
theorem BC_cnt {S : SR} {w : WD} {xf : Int32 → List Int32} {σ μ : mS} : ∀ {e : Int32 × Int32} {rest : PL2}, BC S w xf σ μ e rest → (sI μ 162 e.2).toInt = lsum xf (rest.map Prod.fst) + rest.length
  | (c, d), [], h => by
    obtain ⟨h1, h2, h3, h4⟩ := h
    subst h2
    simp only
    rw [h3]
    simp [lsum]
  | (c, d), e :: rest, h => by
    obtain ⟨_, _, ⟨a1, a2⟩, _, _, _, _, _, h9, h10⟩ := h
    have ih := BC_cnt h10
    have l := LK_len (FL_LK h9)
    have b := tI_dec (k := 0) (n := sI μ 162 d) (by lia)
    simp only [lsum, List.map_cons, List.sum_cons, List.length_cons] at ih ⊢
    omega
theorem BC_mem {S : SR} {w : WD} {xf : Int32 → List Int32} {σ μ : mS} : ∀ {e : Int32 × Int32} {rest : PL2}, BC S w xf σ μ e rest → ∀ p, p ∈ e :: rest → p = (0, 120) ∨ (p ∈ wC w ∧ sI σ 324 p.1 = 0 ∧ sI μ 166 p.2 = 0 ∧ sI μ 164 p.2 = 0 ∧ sI μ 159 p.2 = 1)
  | (c, d), [], h, p, hp => by
    obtain ⟨h1, h2, _⟩ := h
    rcases List.mem_cons.mp hp with q | q
    · left; rw [q, h1, h2]
    · simp at q
  | (c, d), e :: rest, h, p, hp => by
    obtain ⟨h1, h2, _, _, _, _, _, _, _, h10⟩ := h
    rcases List.mem_cons.mp hp with q | q
    · right; rw [q]; exact ⟨h1, h2.1, h2.2.2.1, h2.2.2.2, h2.2.1⟩
    · exact BC_mem h10 p q
theorem BC_chX {S : SR} {w : WD} {xf : Int32 → List Int32} {σ μ : mS} (W : WOK w) : ∀ {e : Int32 × Int32} {rest : PL2}, BC S w xf σ μ e rest → chX σ (e.1 :: rest.map Prod.fst)
  | (c, d), [], h => h.1
  | (c, d), e :: rest, h => by
    obtain ⟨h1, _, _, _, _, h6, _, _, _, h10⟩ := h
    have := W.2.2.2.2.2 c d h1
    exact ⟨by lia, h6.1, BC_chX W h10⟩
def chM (μ : mS) : List Int32 → Prop
  | [] => False
  | [d] => d = 120
  | d :: e :: l => (0 ≤ d ∧ d < 120) ∧ sI μ 160 d = e ∧ chM μ (e :: l)
theorem BC_chM {S : SR} {w : WD} {xf : Int32 → List Int32} {σ μ : mS} (W : WOK w) : ∀ {e : Int32 × Int32} {rest : PL2}, BC S w xf σ μ e rest → chM μ (e.2 :: rest.map Prod.snd)
  | (c, d), [], h => h.2.1
  | (c, d), e :: rest, h => by
    obtain ⟨h1, _, _, _, _, h6, _, _, _, h10⟩ := h
    have := W.2.2.2.2.2 c d h1
    exact ⟨by lia, h6.2, BC_chM W h10⟩
def dM (k : Nat) : Bool := [143, 154, 155, 156].contains k
theorem allDead_lp {N : Nat} : ∀ (l : List Int32) (d : Int32) (μ : mS) (n : Nat), chM μ (d :: l) → l.length < n → ∃ τ, mm_allDead_5 N n d μ = some τ ∧ m_fr dM μ τ ∧ sF τ 155 = sF μ 155 - sF μ 154 ∧ sF τ 154 = 0 ∧ sF τ 143 = 0 ∧ (∀ x, 0 ≤ x → x < 120 → sI τ 156 x = if x ∈ d :: l then 3 else sI μ 156 x) := by
  intro l
  induction l with
  | nil =>
    intro d μ n hch hn
    obtain ⟨n, rfl⟩ : ∃ j, n = j + 1 := ⟨n - 1, by simp at hn; omega⟩
    have e0 : d = 120 := hch
    subst e0
    simp (disch := lia) only [mm_allDead_5, lt, gd_in, if_pos, if_neg, ↓reduceIte, gd_z0, gd_z1, gd_tt, sF_fold, sG_fold, sI_fold, sJ_fold]
    refine ⟨_, rfl, mf_pi (mf_pi (mf_pi mf_rfl rfl) rfl) rfl, ?_, ?_, ?_, fun x x0 x1 => ?_⟩
    · simp only [sF_pi, sF_pl, sF_ai, sF_al, sG_pi, sG_pl, sG_ai, sG_al, sI_pi, sI_pl, sI_al, sI_ai1, sI_ai2, sJ_pi, sJ_pl, sJ_ai, sJ_al1, sJ_al2, Nat.reduceEqDiff, if_true, if_false, ne_eq, not_false_eq_true, ite_true, ite_false]
    · simp only [sF_pi, sF_pl, sF_ai, sF_al, sG_pi, sG_pl, sG_ai, sG_al, sI_pi, sI_pl, sI_al, sI_ai1, sI_ai2, sJ_pi, sJ_pl, sJ_ai, sJ_al1, sJ_al2, Nat.reduceEqDiff, if_true, if_false, ne_eq, not_false_eq_true, ite_true, ite_false]
    · simp only [sF_pi, sF_pl, sF_ai, sF_al, sG_pi, sG_pl, sG_ai, sG_al, sI_pi, sI_pl, sI_al, sI_ai1, sI_ai2, sJ_pi, sJ_pl, sJ_ai, sJ_al1, sJ_al2, Nat.reduceEqDiff, if_true, if_false, ne_eq, not_false_eq_true, ite_true, ite_false]
    · rw [if_neg (fun q => by have : x = 120 := by simpa using q
                              lia)]
      simp only [sF_pi, sF_pl, sF_ai, sF_al, sG_pi, sG_pl, sG_ai, sG_al, sI_pi, sI_pl, sI_al, sI_ai1, sI_ai2, sJ_pi, sJ_pl, sJ_ai, sJ_al1, sJ_al2, Nat.reduceEqDiff, if_true, if_false, ne_eq, not_false_eq_true, ite_true, ite_false]
  | cons e l ih =>
    intro d μ n hch hn
    obtain ⟨n, rfl⟩ : ∃ j, n = j + 1 := ⟨n - 1, by simp at hn; omega⟩
    obtain ⟨⟨h0, h1⟩, h2, h3⟩ := hch
    have ch2 : ∀ (l : List Int32), chM μ l → chM (md_ai μ 156 d.toNatClampNeg 3) l := by
      intro l
      induction l with
      | nil => exact fun h => h
      | cons a l ih =>
        intro h
        cases l with
        | nil => exact h
        | cons b l =>
          obtain ⟨p1, p2, p3⟩ := h
          refine ⟨p1, ?_, ih p3⟩
          simp (disch := lia) only [sF_pi, sF_pl, sF_ai, sF_al, sG_pi, sG_pl, sG_ai, sG_al, sI_pi, sI_pl, sI_al, sI_ai1, sI_ai2, sJ_pi, sJ_pl, sJ_ai, sJ_al1, sJ_al2, Nat.reduceEqDiff, if_true, if_false, ne_eq, not_false_eq_true, ite_true, ite_false]; exact p2
    obtain ⟨υ, b1, b2, b3, b4, b5, b6⟩ := ih e (md_ai μ 156 d.toNatClampNeg 3) n (ch2 _ h3) (by simp at hn; omega)
    refine ⟨υ, ?_, mf_tr (mf_ai mf_rfl rfl) b2, ?_, b4, b5, fun x x0 x1 => ?_⟩
    · simp (disch := lia) only [mm_allDead_5, lt, gd_in, if_pos, if_neg, ↓reduceIte, gd_z0, gd_z1, gd_tt, sF_fold, sG_fold, sI_fold, sJ_fold, sF_pi, sF_pl, sF_ai, sF_al, sG_pi, sG_pl, sG_ai, sG_al, sI_pi, sI_pl, sI_al, sI_ai1, sI_ai2, sJ_pi, sJ_pl, sJ_ai, sJ_al1, sJ_al2, Nat.reduceEqDiff, if_true, if_false, ne_eq, not_false_eq_true, ite_true, ite_false, h2, nar_tg]
      exact b1
    · rw [b3]; simp only [sF_pi, sF_pl, sF_ai, sF_al, sG_pi, sG_pl, sG_ai, sG_al, sI_pi, sI_pl, sI_al, sI_ai1, sI_ai2, sJ_pi, sJ_pl, sJ_ai, sJ_al1, sJ_al2, Nat.reduceEqDiff, if_true, if_false, ne_eq, not_false_eq_true, ite_true, ite_false]
    · rw [b6 x x0 x1, sI_ai h0 x0]
      simp only [true_and]
      by_cases q : x ∈ e :: l
      · rw [if_pos q, if_pos (List.mem_cons_of_mem _ q)]
      · by_cases r : x = d
        · rw [if_neg q, if_pos r, if_pos (by rw [r]; exact List.mem_cons_self)]
        · rw [if_neg q, if_neg r, if_neg (fun z => (List.mem_cons.mp z).elim r q)]
theorem lsum_fU2 {xf : Int32 → List Int32} {c : Int32} : ∀ {l : List Int32}, l.Nodup → c ∈ l → lsum xf l = lsum (fU xf c []) l + (xf c).length
  | [], _, h => absurd h (by simp)
  | a :: l, nd, h => by
    obtain ⟨n1, n2⟩ := List.nodup_cons.mp nd
    simp only [lsum, List.map_cons, List.sum_cons]
    by_cases q : a = c
    · subst q
      have := lsum_fU (xf := xf) n1
      simp only [lsum] at this
      rw [this, fU_s]
      simp
      omega
    · have hl : c ∈ l := (List.mem_cons.mp h).resolve_left (fun z => q z.symm)
      have := lsum_fU2 (xf := xf) n2 hl
      simp only [lsum] at this
      rw [this, fU_o q]
      omega
theorem fAll_ls {w : WD} {xf : Int32 → List Int32} : (fAll w xf).length = lsum xf (cX w) := by
  simp only [fAll, lsum, List.length_flatten, List.map_map]
  rfl
theorem lsum_fE {l : List Int32} (nl : l.Nodup) : ∀ {ch : List Int32} {xf : Int32 → List Int32}, ch.Nodup → (∀ c, c ∈ ch → c ∈ l) → lsum xf l = lsum (fE xf ch) l + lsum xf ch
  | [], xf, _, _ => by
    have : fE xf [] = xf := by funext x; simp [fE]
    rw [this]; simp [lsum]
  | c :: ch, xf, nd, hs => by
    obtain ⟨n1, n2⟩ := List.nodup_cons.mp nd
    have a := lsum_fU2 (xf := xf) nl (hs c List.mem_cons_self)
    have b := lsum_fE nl (ch := ch) (xf := fU xf c []) n2 (fun x hx => hs x (List.mem_cons_of_mem _ hx))
    rw [fE_c, lsum_fU n1] at b
    have e : lsum xf (c :: ch) = (xf c).length + lsum xf ch := by simp only [lsum, List.map_cons, List.sum_cons]
    omega
theorem cX_nd {S : SR} {w : WD} {xf : Int32 → List Int32} {ch : PL2} {σ μ : mS} (H : CO S w xf ch σ μ) : (cX w).Nodup ∧ (∀ e, e ∈ cX w → 0 ≤ e ∧ e < 121) := by
  obtain ⟨_, _, ⟨fcs, h1, h2, h3, h4⟩, _⟩ := H
  have n2 := (List.nodup_append.mp h2).2.1
  refine ⟨List.nodup_cons.mpr ⟨fun q => ?_, n2⟩, fun e he => ?_⟩
  · have := (h3 0 (List.mem_append_right _ q)).1
    exact absurd this (by decide)
  · rcases List.mem_cons.mp he with q | q
    · subst q; exact ⟨by decide, by decide⟩
    · have := h3 e (List.mem_append_right _ q)
      exact ⟨by lia, by lia⟩
/-- all that runs or passes is over -/
def eX (k : Nat) : Bool := kK k || (396 ≤ k && k ≤ 411)
def eM (k : Nat) : Bool := [143, 154, 155, 156, 172, 178, 179, 181, 183, 184, 185, 186, 187, 188, 189, 190].contains k
theorem eX_f {k : Nat} (h : (k < 323 ∨ 339 < k ∨ (325 ≤ k ∧ k ≤ 338 ∧ k ≠ 326)) ∧ (k < 356 ∨ 363 < k) ∧ (k < 396 ∨ 411 < k)) : eX k = false := by
  simp only [eX, Bool.or_eq_false_iff, Bool.and_eq_false_iff, decide_eq_false_iff_not]
  exact ⟨kK_f ⟨h.1, h.2.1⟩, by omega⟩
theorem eM_f {k : Nat} (h : k ≠ 143 ∧ (k < 154 ∨ 156 < k) ∧ k ≠ 172 ∧ (k < 178 ∨ 190 < k ∨ k = 180 ∨ k = 182)) : eM k = false := by
  simp only [eM, List.contains_cons, List.contains_nil, Bool.or_eq_false_iff, beq_eq_false_iff_ne]
  (repeat' (first | exact trivial | omega | apply And.intro))
theorem QU_of {S : SR} {K : Int32 → Int32 → Int32 → Prop} {q : Int} {w : WD} {xf : Int32 → List Int32} {c d : Int32} {rest : PL2} {σ μ τ τm : mS} (H : ME S K q w xf c d rest σ μ) (hl : LK σ (mff μ) (sI μ 162 d) (xf c) (sF μ 154)) (X : XF w (fE xf (c :: rest.map Prod.fst)) τ) (fr : m_fr eX σ τ) (frm : m_fr eM μ τm) (e358 : sF τ 358 = sF σ 358 - Int32.ofNat (lsum xf (c :: rest.map Prod.fst) + rest.length)) (e323 : ∀ x, 0 ≤ x → x ≠ 0 → sI τ 323 x = if x ∈ c :: rest.map Prod.fst then 3 else sI σ 323 x) (e324 : ∀ x, 0 ≤ x → x ≠ 0 → sI τ 324 x = if x ∈ c :: rest.map Prod.fst then 0 else sI σ 324 x) (m155 : sF τm 155 = sF μ 155 - sF μ 154) (m156 : ∀ x, 0 ≤ x → x < 120 → sI τm 156 x = if x ∈ d :: rest.map Prod.snd then 3 else sI μ 156 x) : QU S K q w (fE xf (c :: rest.map Prod.fst)) τ τm := by
  have cl := ME_calls H
  obtain ⟨⟨R, h1⟩, Z, HH, X0, C, B, ⟨n1, n2, n3, n4⟩, nd, ⟨o1, o2, o3, o4, o5⟩, _⟩ := H
  obtain ⟨ncx, pcx⟩ := cX_nd C
  have W := R.1
  have mem := BC_mem B
  have chc : ∀ x, x ∈ c :: rest.map Prod.fst → x ∈ cX w := fun x hx => by
    have : x ∈ ((c, d) :: rest).map Prod.fst := by simpa using hx
    obtain ⟨p, p1, p2⟩ := List.mem_map.mp this
    rcases mem p p1 with z | z
    · rw [z] at p2; rw [← p2]; exact List.mem_cons_self
    · rw [← p2]; exact List.mem_cons_of_mem _ (List.mem_map.mpr ⟨p, z.1, rfl⟩)
  have nd' : (c :: rest.map Prod.fst).Nodup := by simpa using nd
  have z0 : 0 ∈ c :: rest.map Prod.fst := by
    have : ∀ (rest : PL2) (e : Int32 × Int32), BC S w xf σ μ e rest → 0 ∈ e.1 :: rest.map Prod.fst := by
      intro rest
      induction rest with
      | nil => intro e h; obtain ⟨c, d⟩ := e; have := h.1; simp [this]
      | cons e' rest ih =>
        intro e h
        obtain ⟨c, d⟩ := e
        have := ih e' h.2.2.2.2.2.2.2.2.2
        exact List.mem_cons_of_mem _ (by simpa using this)
    exact this rest (c, d) B
  -- which coroutines are in the chain
  have inch : ∀ a b, (a, b) ∈ wC w → (a ∈ c :: rest.map Prod.fst ↔ (a, b) ∈ (c, d) :: rest) ∧ (b ∈ d :: rest.map Prod.snd ↔ (a, b) ∈ (c, d) :: rest) := fun a b hab => by
    have w6 := W.2.2.2.2.2 a b hab
    constructor
    · constructor
      · intro h
        have : a ∈ ((c, d) :: rest).map Prod.fst := by simpa using h
        obtain ⟨⟨p, p'⟩, p1, p2⟩ := List.mem_map.mp this
        simp only at p2
        subst p2
        rcases mem _ p1 with z | z
        · have := (Prod.mk.inj z).1; lia
        · have := (W.2.2.1 p p' p b z.1 hab).mp rfl
          rw [← this]; exact p1
      · intro h
        have : a ∈ ((c, d) :: rest).map Prod.fst := List.mem_map.mpr ⟨(a, b), h, rfl⟩
        simpa using this
    · constructor
      · intro h
        have : b ∈ ((c, d) :: rest).map Prod.snd := by simpa using h
        obtain ⟨⟨p, p'⟩, p1, p2⟩ := List.mem_map.mp this
        simp only at p2
        subst p2
        rcases mem _ p1 with z | z
        · have := (Prod.mk.inj z).2; lia
        · have := (W.2.2.1 p p' a p' z.1 hab).mpr rfl
          rw [← this]; exact p1
      · intro h
        have : b ∈ ((c, d) :: rest).map Prod.snd := List.mem_map.mpr ⟨(a, b), h, rfl⟩
        simpa using this
  have R' : RH K (q + fQ μ) w τ τm := RH_fr R fr frm (fun k a b => eX_f (by omega)) (fun k a b _ _ _ _ _ _ => eM_f (by omega))
  have x324 : sF τ 338 = sF σ 338 := mf_F fr (eX_f (by omega))
  have cnt : (sF μ 154).toInt = lsum xf (c :: rest.map Prod.fst) + rest.length := by
    have a := LK_len hl
    have b := BC_cnt B
    simp only at b
    have e : lsum xf (c :: rest.map Prod.fst) = (xf c).length + lsum xf (rest.map Prod.fst) := by simp only [lsum, List.map_cons, List.sum_cons]
    omega
  have tot := lsum_fE ncx (xf := xf) nd' chc
  rw [fAll_ls] at o4
  have r54 := tI_rng (sF μ 154)
  have q358 : (sF τ 358).toInt = (fAll w (fE xf (c :: rest.map Prod.fst))).length := by
    rw [e358, fAll_ls]
    rw [tI_le] at o2 o3
    have z0 : (0 : Int32).toInt = 0 := rfl
    have z2 : (200 : Int32).toInt = 200 := rfl
    rw [tI_sub] <;> rw [tI_lit (by omega)] <;> omega
  have q155 : (sF τm 155).toInt = kSum w μ := by
    have := cl.1
    rw [m155]
    rw [o1, tI_le] at o2 o3
    rw [tI_le] at this
    have z0 : (0 : Int32).toInt = 0 := rfl
    have z2 : (200 : Int32).toInt = 200 := rfl
    have := cl.2.2
    rw [tI_sub] <;> omega
  have ks : kSum w τm = kSum w μ := by
    simp only [kSum]
    congr 1
    apply List.map_congr_left
    intro p _
    rw [mf_I frm (eM_f (by omega))]
  have o1' : (sF σ 358).toInt = (sF μ 155).toInt := by rw [o1]
  refine ⟨⟨by rw [fQ_e (mf_F frm (eM_f (by omega))) (mf_I frm (eM_f (by omega)))]; exact R', h1⟩, ZS_fr Z fr (eX_f (by omega)), HO_fr HH wle_rfl fr frm (fun k hk => eX_f (by omega)) (fun k a b => eM_f (by omega)) (fun a b _ => xL_fr fr (fun k a b => eX_f (by omega))) (fun k _ => by rw [frm.2.2.1 44 (eM_f (by omega))]), X, by simp only [fE]; rw [if_pos z0], ⟨fun a b hab => ?_, fun e e0 e1 he => ?_, ?_, ?_, ?_, ?_⟩, ?_, ?_, ?_, q358, by rw [ks]; exact q155⟩
  · obtain ⟨a1, a2, a3, a4, a5⟩ := C.1 a b hab
    have w6 := W.2.2.2.2.2 a b hab
    have t323 := e323 a (by lia) (by lia)
    have t324 := e324 a (by lia) (by lia)
    have t156 := m156 b w6.2.1 w6.2.2
    obtain ⟨i1, i2⟩ := inch a b hab
    refine ⟨a1, ?_, ?_, ?_, .inr ?_⟩
    · rw [t323, t156]
      by_cases z : (a, b) ∈ (c, d) :: rest
      · rw [if_pos (i1.mpr z), if_pos (i2.mpr z)]
      · rw [if_neg (fun r => z (i1.mp r)), if_neg (fun r => z (i2.mp r))]; exact a2
    · rw [mf_J fr (eX_f (by omega)), mf_I frm (eM_f (by omega))]; exact a3
    · rw [mf_I frm (eM_f (by omega))]; exact a4
    · by_cases z : (a, b) ∈ (c, d) :: rest
      · left
        rcases mem _ z with y | y
        · have := (Prod.mk.inj y).1; lia
        · refine ⟨by rw [t323, if_pos (i1.mpr z)], by simp only [fE]; rw [if_pos (i1.mpr z)], by rw [t324, if_pos (i1.mpr z)], ?_, ?_⟩
          · rw [mf_I frm (eM_f (by omega))]; exact y.2.2.1
          · rw [mf_I frm (eM_f (by omega))]; exact y.2.2.2.1
      · have na : a ∉ c :: rest.map Prod.fst := fun r => z (i1.mp r)
        have nb : b ∉ d :: rest.map Prod.snd := fun r => z (i2.mp r)
        refine cKd_cg (a5.resolve_left z) wle_rfl (by simp only [fE]; rw [if_neg na]) (fun f _ => xcs_pK fr (fun k hk => eX_f (by omega))) (cds_fr fr (eX_f (by omega)) (eX_f (by omega)) (eX_f (by omega))) ⟨fun k k0 k1 k2 => ?_, mf_J fr (eX_f (by omega)), mf_J fr (eX_f (by omega))⟩ ⟨fun k k0 k1 => ?_, fun k j _ _ _ => ?_, fun i _ _ => ⟨?_, ?_⟩⟩
        · by_cases k3 : k = 323
          · subst k3; rw [t323, if_neg na]
          · by_cases k4 : k = 324
            · subst k4; rw [t324, if_neg na]
            · exact mf_I fr (eX_f (by omega))
        · by_cases k3 : k = 156
          · subst k3; rw [t156, if_neg nb]
          · exact mf_I frm (eM_f (by omega))
        · simp only [kff]; rw [mf_I frm (eM_f (by omega)), mf_I frm (eM_f (by omega))]
        · simp only [kpt]; rw [mf_I frm (eM_f (by omega)), mf_I frm (eM_f (by omega))]
        · simp only [kpv]; rw [mf_J frm (eM_f (by omega)), mf_I frm (eM_f (by omega))]
  · rw [mf_I frm (eM_f (by omega))]; exact C.2.1 e e0 e1 he
  · obtain ⟨fcs, g⟩ := C.2.2.1
    refine ⟨fcs, ?_⟩
    rw [mf_F fr (eX_f (by omega))]
    exact ⟨seg_congr g.1 (fun x _ => mf_I fr (eX_f (by omega))), g.2⟩
  · rw [x324, mf_F frm (eM_f (by omega))]; exact C.2.2.2.1
  · rw [mf_J fr (eX_f (by omega)), mf_I frm (eM_f (by omega))]; exact C.2.2.2.2.1
  · refine KL_sub C.2.2.2.2.2 (fun e he => ⟨?_, ?_, ?_, ?_, ?_⟩) (mf_F frm (eM_f (by omega))) (mf_F frm (eM_f (by omega)))
    · obtain ⟨e0, e1, e2, e3, e4⟩ := he
      rw [mf_I frm (eM_f (by omega))] at e2 e4
      rw [m156 e e0 e1] at e3
      refine ⟨e0, e1, e2, ?_, e4⟩
      by_cases z : e ∈ d :: rest.map Prod.snd
      · rw [if_pos z] at e3; exact absurd e3 (by decide)
      · rw [if_neg z] at e3; exact e3
    · exact mf_I frm (eM_f (by omega))
    · exact mf_I frm (eM_f (by omega))
    · exact mf_I frm (eM_f (by omega))
    · exact mf_I frm (eM_f (by omega))
  · have hh : (sF τ 358).toInt = (sF τm 155).toInt := by
      rw [q155, q358, fAll_ls]
      omega
    rw [tI_eq]; exact hh
  · rw [tI_le, q358]
    show (0 : Int) ≤ _
    omega
  · rw [tI_le, q358, fAll_ls]
    rw [tI_le] at o3
    have z2 : (200 : Int32).toInt = 200 := rfl
    omega
