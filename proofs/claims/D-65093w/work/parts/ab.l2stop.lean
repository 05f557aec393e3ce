/-! LAYER 2: coroutines that are not touched; calls that are broken off -/
def xss (σ τ : mS) (c : Int32) : Prop := (∀ k, 323 ≤ k → k ≤ 334 → k ≠ 326 → sI τ k c = sI σ k c) ∧ sJ τ 325 c = sJ σ 325 c ∧ sJ τ 335 c = sJ σ 335 c
def mss (μ τm : mS) (d : Int32) : Prop := (∀ k, 156 ≤ k → k ≤ 170 → sI τm k d = sI μ k d) ∧ (∀ k j, 0 ≤ k → k < sI μ 166 d → j < 10 → kff τm d k j = kff μ d k j) ∧ (∀ i, 0 ≤ i → i < sI μ 164 d → kpt τm d i = kpt μ d i ∧ kpv τm d i = kpv μ d i)
theorem cKd_cg {S : SR} {w w' : WD} {xf xf' : Int32 → List Int32} {σ μ τ τm : mS} {c d : Int32} (H : cKd S w xf σ μ c d) (wl : wle w w') (hx : xf' c = xf c) (hf : ∀ f, f ∈ xf c → xcs σ τ f) (hc : cds w σ τ) (xs : xss σ τ c) (ms : mss μ τm d) : cKd S w' xf' τ τm c d := by
  obtain ⟨x1, x2, x3⟩ := xs
  obtain ⟨m1, m2, m3⟩ := ms
  simp only [cKd]
  rw [hx, x1 323 (by omega) (by omega) (by omega), x1 324 (by omega) (by omega) (by omega), x1 332 (by omega) (by omega) (by omega), x1 333 (by omega) (by omega) (by omega), x1 334 (by omega) (by omega) (by omega), x2, m1 166 (by omega) (by omega), m1 164 (by omega) (by omega), m1 159 (by omega) (by omega), m1 158 (by omega) (by omega), m1 167 (by omega) (by omega), m1 168 (by omega) (by omega), m1 169 (by omega) (by omega)]
  rcases H with b | b | b
  · exact .inl b
  · obtain ⟨b1, b2, b3, b4, b5, b6⟩ := b
    exact .inr (.inl ⟨b1, b2, b3, b4, VV_mono wl b5, b6⟩)
  · obtain ⟨b1, b2, b3, b4, b5, b6, b7⟩ := b
    refine .inr (.inr ⟨b1, b2, b3, ?_, b5, b6, b7⟩)
    exact FL_cg b4 ⟨by decide, by lia, by decide, by decide⟩ wl hf hc (fun k j k0 k1 hj => m2 k j k0 k1 hj) (fun i i0 i1 => m3 i i0 (by
      have i1' : i < sI μ 167 d := i1
      rw [b5] at i1'; exact i1'))
theorem KL_sub {μ τm : mS} (H : KL μ) (hw : ∀ d, wts τm d → wts μ d ∧ sI τm 163 d = sI μ 163 d ∧ sI τm 164 d = sI μ 164 d ∧ sI τm 165 d = sI μ 165 d ∧ sI τm 166 d = sI μ 166 d) (e1 : sF τm 175 = sF μ 175) (e2 : sF τm 177 = sF μ 177) : KL τm := by
  obtain ⟨h1, h2, h3, h4⟩ := H
  simp only [KL]
  rw [e1, e2]
  refine ⟨h1, h2, fun d hd => ?_, fun d e hd he hn => ?_⟩
  · obtain ⟨q, a, b, c', d'⟩ := hw d hd
    rw [a, b, c', d']; exact h3 d q
  · obtain ⟨q, a, b, c', d'⟩ := hw d hd
    obtain ⟨q', a', b', c'', d''⟩ := hw e he
    rw [a, b, c', d', a', b', c'', d'']; exact h4 d e q q' hn
theorem xcs_pK {P : Nat → Bool} {σ τ : mS} {g : Int32} (fr : m_fr P σ τ) (hp : ∀ k, (343 ≤ k ∧ k ≤ 355) ∨ k = 364 ∨ k = 365 → P k = false) : xcs σ τ g := ⟨fun k hk => mf_I fr (hp k (by omega)), fun x _ _ => by
  simp only [xt, xv]
  rw [mf_I fr (hp 364 (by omega)), mf_I fr (hp 347 (by omega)), mf_J fr (hp 365 (by omega))]
  exact ⟨rfl, rfl⟩⟩
theorem cds_fr {P : Nat → Bool} {w : WD} {σ τ : mS} (fr : m_fr P σ τ) (p1 : P 257 = false) (p2 : P 261 = false) (p3 : P 222 = false) : cds w σ τ := ⟨fun _ => mf_I fr p1, fun _ => mf_I fr p2, fun _ _ _ => mf_I fr p3⟩
/-- fields that change when calls are over and coroutines change their states -/
def kK (k : Nat) : Bool := [323, 324, 326, 339, 356, 357, 358, 359, 360, 361, 362, 363].contains k
theorem pK_k {σ τ : mS} (h : m_fr pK σ τ) : m_fr kK σ τ := mf_mono h (fun k hk => by
  simp only [kK, pK, List.contains_cons, List.contains_nil, Bool.or_eq_false_iff, beq_eq_false_iff_ne] at hk ⊢
  (repeat' (first | exact trivial | omega | apply And.intro)))
theorem kK_f {k : Nat} (h : (k < 323 ∨ 339 < k ∨ (325 ≤ k ∧ k ≤ 338 ∧ k ≠ 326)) ∧ (k < 356 ∨ 363 < k)) : kK k = false := by
  simp only [kK, List.contains_cons, List.contains_nil, Bool.or_eq_false_iff, beq_eq_false_iff_ne]
  (repeat' (first | exact trivial | omega | apply And.intro))
theorem kill_lp {N : Nat} {w : WD} {c : Int32} (nc : (cX w).Nodup) (hc : c ∈ cX w) (hp : ∀ e, e ∈ cX w → 0 ≤ e) (c1 : c < 121) : ∀ (fl : List Int32) (xf : Int32 → List Int32) (σ : mS) (n : Nat), XF w xf σ → xf c = fl → fl.length < n → ∃ τ, xx5_kill_b0 N n c σ = some τ ∧ XF w (fU xf c []) τ ∧ m_fr kK σ τ ∧ (sF τ 358 = sF σ 358 - Int32.ofNat fl.length) ∧ (∀ x, 0 ≤ x → sI τ 323 x = if x = c then 3 else sI σ 323 x) ∧ (∀ x, 0 ≤ x → sI τ 324 x = if x = c then 0 else sI σ 324 x) ∧ sF τ 339 = sF σ 339 := by
  intro fl
  have c0 := hp c hc
  induction fl with
  | nil =>
    intro xf σ n H hf hn
    obtain ⟨n, rfl⟩ : ∃ j, n = j + 1 := ⟨n - 1, by simp at hn; omega⟩
    have t : sI σ 326 c = -1 := by
      obtain ⟨fc, bl, s1, s2, _⟩ := H
      have := s2 c hc
      rw [hf] at this
      exact this
    have e : fU xf c [] = xf := by
      funext x
      by_cases q : x = c
      · subst q; rw [fU_s, hf]
      · rw [fU_o q]
    simp (disch := lia) only [xx5_kill_b0, lt, gd_in, if_pos, if_neg, ↓reduceIte, gd_z0, gd_z1, gd_tt, sF_fold, sG_fold, sI_fold, sJ_fold, sF_pi, sF_pl, sF_ai, sF_al, sG_pi, sG_pl, sG_ai, sG_al, sI_pi, sI_pl, sI_al, sI_ai1, sI_ai2, sJ_pi, sJ_pl, sJ_ai, sJ_al1, sJ_al2, Nat.reduceEqDiff, if_true, if_false, ne_eq, not_false_eq_true, ite_true, ite_false, t, nar_tg]
    have fr : ∀ a b, m_fr kK σ (md_ai (md_ai σ 323 c.toNatClampNeg a) 324 c.toNatClampNeg b) := fun a b => mf_ai (mf_ai mf_rfl rfl) rfl
    refine ⟨_, rfl, ?_, fr _ _, ?_, fun x hx => ?_, fun x hx => ?_, ?_⟩
    · rw [e]
      have fr2 : m_fr (fun k => [323, 324].contains k) σ (md_ai (md_ai σ 323 c.toNatClampNeg 3) 324 c.toNatClampNeg 0) := mf_ai (mf_ai mf_rfl rfl) rfl
      obtain ⟨fc, bl, s1, s2, nd, rg, len, ⟨b1, b2, b3, b4⟩, bn, bm⟩ := H
      refine ⟨fc, bl, ?_, fun c' hc' => ?_, nd, rg, len, ⟨?_, ?_, ?_, ?_⟩, bn, fun x => ?_⟩
      · rw [mf_F fr2 rfl]; exact seg_congr s1 (fun x _ => mf_I fr2 rfl)
      · rw [mf_I fr2 rfl]; exact seg_congr (s2 c' hc') (fun x _ => mf_I fr2 rfl)
      · rw [mf_F fr2 rfl]; exact seg_congr b1 (fun x _ => mf_I fr2 rfl)
      · rw [mf_F fr2 rfl]; exact seg_congr b2 (fun x _ => mf_I fr2 rfl)
      · rw [mf_F fr2 rfl]; exact OB_cg b3 (fun x _ => ⟨mf_I fr2 rfl, mf_I fr2 rfl⟩)
      · rw [mf_F fr2 rfl]; exact b4
      · rw [mf_I fr2 rfl]; exact bm x
    · simp only [sF_pi, sF_pl, sF_ai, sF_al, sG_pi, sG_pl, sG_ai, sG_al, sI_pi, sI_pl, sI_al, sI_ai1, sI_ai2, sJ_pi, sJ_pl, sJ_ai, sJ_al1, sJ_al2, Nat.reduceEqDiff, if_true, if_false, ne_eq, not_false_eq_true, ite_true, ite_false, List.length_nil]
      show sF σ 358 = sF σ 358 - 0
      lia
    · simp (disch := lia) only [sF_pi, sF_pl, sF_ai, sF_al, sG_pi, sG_pl, sG_ai, sG_al, sI_pi, sI_pl, sI_al, sI_ai1, sI_ai2, sJ_pi, sJ_pl, sJ_ai, sJ_al1, sJ_al2, Nat.reduceEqDiff, if_true, if_false, ne_eq, not_false_eq_true, ite_true, ite_false, sI_ai c0 hx, true_and, false_and]
    · simp (disch := lia) only [sF_pi, sF_pl, sF_ai, sF_al, sG_pi, sG_pl, sG_ai, sG_al, sI_pi, sI_pl, sI_al, sI_ai1, sI_ai2, sJ_pi, sJ_pl, sJ_ai, sJ_al1, sJ_al2, Nat.reduceEqDiff, if_true, if_false, ne_eq, not_false_eq_true, ite_true, ite_false, sI_ai c0 hx, true_and, false_and]
    · simp only [sF_pi, sF_pl, sF_ai, sF_al, sG_pi, sG_pl, sG_ai, sG_al, sI_pi, sI_pl, sI_al, sI_ai1, sI_ai2, sJ_pi, sJ_pl, sJ_ai, sJ_al1, sJ_al2, Nat.reduceEqDiff, if_true, if_false, ne_eq, not_false_eq_true, ite_true, ite_false]
  | cons f fl ih =>
    intro xf σ n H hf hn
    obtain ⟨n, rfl⟩ : ∃ j, n = j + 1 := ⟨n - 1, by simp at hn; omega⟩
    have t : sI σ 326 c = f ∧ 0 ≤ f := by
      obtain ⟨fc, bl, s1, s2, nd, rg, _⟩ := H
      have := s2 c hc
      rw [hf] at this
      exact ⟨this.1, (rg f (List.mem_append_right _ (fAll_mem hc (by rw [hf]; exact List.mem_cons_self)))).1⟩
    obtain ⟨τ, a1, a2, a3, a4, a5⟩ := pop_x (N := N) H nc hc hp c1 hf
    obtain ⟨υ, b1, b2, b3, b4, b5, b6, b7⟩ := ih (fU xf c fl) τ n a2 fU_s (by simp at hn; omega)
    have e : fU (fU xf c fl) c [] = fU xf c [] := by
      funext x
      by_cases q : x = c
      · subst q; rw [fU_s, fU_s]
      · rw [fU_o q, fU_o q, fU_o q]
    rw [e] at b2
    refine ⟨υ, ?_, b2, mf_tr (pK_k a3) b3, ?_, fun x hx => ?_, fun x hx => ?_, ?_⟩
    · simp (disch := lia) only [xx5_kill_b0, lt, gd_in, if_pos, if_neg, ↓reduceIte, gd_z0, gd_z1, gd_tt, sF_fold, sG_fold, sI_fold, sJ_fold, t.1]
      rw [a1]
      exact b1
    · rw [b4, a4, List.length_cons, ← oN_s]; lia
    · rw [b5 x hx, mf_I a3 rfl]
    · rw [b6 x hx, mf_I a3 rfl]
    · rw [b7, mf_F a3 rfl]
theorem kill_x {N : Nat} (hN : BIG ≤ N) {w : WD} {c : Int32} {xf : Int32 → List Int32} {σ : mS} (H : XF w xf σ) (nc : (cX w).Nodup) (hc : c ∈ cX w) (hp : ∀ e, e ∈ cX w → 0 ≤ e) (c1 : c < 121) : ∃ τ, xx5_kill N σ c = some τ ∧ XF w (fU xf c []) τ ∧ m_fr kK σ τ ∧ (sF τ 358 = sF σ 358 - Int32.ofNat (xf c).length) ∧ (∀ x, 0 ≤ x → sI τ 323 x = if x = c then 3 else sI σ 323 x) ∧ (∀ x, 0 ≤ x → sI τ 324 x = if x = c then 0 else sI σ 324 x) ∧ sF τ 339 = sF σ 339 := by
  have len : (xf c).length ≤ 202 := by
    obtain ⟨fc, bl, s1, s2, nd, rg, len, _⟩ := H
    have := fl_sub (xf := xf) hc
    rw [List.length_append] at len
    simp only [fAll] at len
    omega
  exact kill_lp (N := N) nc hc hp c1 (xf c) xf σ N H rfl (by simp only [BIG] at hN; omega)
theorem i_sub4 (a b c : Int32) : a - b - 1 - c = a - (b + c + 1) := by lia
/-- a list of coroutines, each with no calls -/
def fE (xf : Int32 → List Int32) (l : List Int32) : Int32 → List Int32 := fun x => if x ∈ l then [] else xf x
theorem fE_c {xf : Int32 → List Int32} {c : Int32} {l : List Int32} : fE (fU xf c []) l = fE xf (c :: l) := by
  funext x
  simp only [fE, List.mem_cons]
  by_cases q : x ∈ l
  · rw [if_pos q, if_pos (.inr q)]
  · by_cases r : x = c
    · subst r; rw [if_neg q, if_pos (.inl rfl), fU_s]
    · rw [if_neg q, if_neg (fun z => z.elim r q), fU_o r]
def lsum (xf : Int32 → List Int32) (l : List Int32) : Nat := (l.map (fun c => (xf c).length)).sum
/-- the chain of those that run or pass, on the system's side -/
def chX (σ : mS) : List Int32 → Prop
  | [] => False
  | [c] => c = 0
  | c :: e :: l => 0 < c ∧ sI σ 327 c = e ∧ chX σ (e :: l)
theorem lsum_fU {xf : Int32 → List Int32} {c : Int32} {l : List Int32} (h : c ∉ l) : lsum (fU xf c []) l = lsum xf l := by
  simp only [lsum]
  congr 1
  apply List.map_congr_left
  intro x hx
  rw [fU_o (fun q => h (by rw [← q]; exact hx))]
theorem killAll_lp {N : Nat} (hN : BIG ≤ N) {w : WD} (nc : (cX w).Nodup) (hp : ∀ e, e ∈ cX w → 0 ≤ e ∧ e < 121) : ∀ (l : List Int32) (c : Int32) (xf : Int32 → List Int32) (σ : mS) (n : Nat), XF w xf σ → chX σ (c :: l) → (∀ e, e ∈ c :: l → e ∈ cX w) → (c :: l).Nodup → l.length < n → ∃ τ, xx5_killAll_b5 N n c σ = some τ ∧ XF w (fE xf (c :: l)) τ ∧ m_fr kK σ τ ∧ (sF τ 358 = sF σ 358 - Int32.ofNat (lsum xf (c :: l) + l.length)) ∧ (∀ x, 0 ≤ x → sI τ 323 x = if x ∈ c :: l then 3 else sI σ 323 x) ∧ (∀ x, 0 ≤ x → sI τ 324 x = if x ∈ c :: l then 0 else sI σ 324 x) ∧ sF τ 339 = 0 := by
  intro l
  induction l with
  | nil =>
    intro c xf σ n H hch hm nd hn
    obtain ⟨n, rfl⟩ : ∃ j, n = j + 1 := ⟨n - 1, by simp at hn; omega⟩
    have e0 : c = 0 := hch
    subst e0
    obtain ⟨τ, a1, a2, a3, a4, a5, a6, a7⟩ := kill_x hN H nc (hm 0 (by simp)) (fun e he => (hp e he).1) (by decide)
    have fr : m_fr kK σ (md_pi τ 339 0) := mf_pi a3 rfl
    have fr2 : m_fr (fun k => k == 339) τ (md_pi τ 339 0) := mf_pi mf_rfl rfl
    refine ⟨md_pi τ 339 0, ?_, ?_, fr, ?_, fun x hx => ?_, fun x hx => ?_, by simp only [sF_pi, sF_pl, sF_ai, sF_al, sG_pi, sG_pl, sG_ai, sG_al, sI_pi, sI_pl, sI_al, sI_ai1, sI_ai2, sJ_pi, sJ_pl, sJ_ai, sJ_al1, sJ_al2, Nat.reduceEqDiff, if_true, if_false, ne_eq, not_false_eq_true, ite_true, ite_false]⟩
    · simp (disch := lia) only [xx5_killAll_b5, if_pos]
      rw [a1]; rfl
    · have ee : fE xf [0] = fU xf 0 [] := by
        have := fE_c (xf := xf) (c := 0) (l := [])
        rw [← this]
        funext x
        simp [fE]
      rw [ee]
      obtain ⟨fc, bl, s1, s2, nd', rg, len, ⟨b1, b2, b3, b4⟩, bn, bm⟩ := a2
      refine ⟨fc, bl, ?_, fun c' hc' => ?_, nd', rg, len, ⟨?_, ?_, ?_, ?_⟩, bn, fun x => ?_⟩
      · rw [mf_F fr2 rfl]; exact seg_congr s1 (fun x _ => mf_I fr2 rfl)
      · rw [mf_I fr2 rfl]; exact seg_congr (s2 c' hc') (fun x _ => mf_I fr2 rfl)
      · rw [mf_F fr2 rfl]; exact seg_congr b1 (fun x _ => mf_I fr2 rfl)
      · rw [mf_F fr2 rfl]; exact seg_congr b2 (fun x _ => mf_I fr2 rfl)
      · rw [mf_F fr2 rfl]; exact OB_cg b3 (fun x _ => ⟨mf_I fr2 rfl, mf_I fr2 rfl⟩)
      · rw [mf_F fr2 rfl]; exact b4
      · rw [mf_I fr2 rfl]; exact bm x
    · simp only [sF_pi, sF_pl, sF_ai, sF_al, sG_pi, sG_pl, sG_ai, sG_al, sI_pi, sI_pl, sI_al, sI_ai1, sI_ai2, sJ_pi, sJ_pl, sJ_ai, sJ_al1, sJ_al2, Nat.reduceEqDiff, if_true, if_false, ne_eq, not_false_eq_true, ite_true, ite_false]
      rw [a4]
      simp [lsum]
    · simp only [sF_pi, sF_pl, sF_ai, sF_al, sG_pi, sG_pl, sG_ai, sG_al, sI_pi, sI_pl, sI_al, sI_ai1, sI_ai2, sJ_pi, sJ_pl, sJ_ai, sJ_al1, sJ_al2, Nat.reduceEqDiff, if_true, if_false, ne_eq, not_false_eq_true, ite_true, ite_false, List.mem_singleton]; exact a5 x hx
    · simp only [sF_pi, sF_pl, sF_ai, sF_al, sG_pi, sG_pl, sG_ai, sG_al, sI_pi, sI_pl, sI_al, sI_ai1, sI_ai2, sJ_pi, sJ_pl, sJ_ai, sJ_al1, sJ_al2, Nat.reduceEqDiff, if_true, if_false, ne_eq, not_false_eq_true, ite_true, ite_false, List.mem_singleton]; exact a6 x hx
  | cons e l ih =>
    intro c xf σ n H hch hm nd hn
    obtain ⟨n, rfl⟩ : ∃ j, n = j + 1 := ⟨n - 1, by simp at hn; omega⟩
    obtain ⟨h1, h2, h3⟩ := hch
    obtain ⟨n1, n2⟩ := List.nodup_cons.mp nd
    have pc := hp c (hm c List.mem_cons_self)
    obtain ⟨τ, a1, a2, a3, a4, a5, a6, a7⟩ := kill_x hN H nc (hm c List.mem_cons_self) (fun e he => (hp e he).1) pc.2
    have fr2 : m_fr (fun k => k == 358) τ (md_pi τ 358 (sF τ 358 - 1)) := mf_pi mf_rfl rfl
    have X2 : XF w (fU xf c []) (md_pi τ 358 (sF τ 358 - 1)) := by
      obtain ⟨fc, bl, s1, s2, nd', rg, len, ⟨b1, b2, b3, b4⟩, bn, bm⟩ := a2
      refine ⟨fc, bl, ?_, fun c' hc' => ?_, nd', rg, len, ⟨?_, ?_, ?_, ?_⟩, bn, fun x => ?_⟩
      · rw [mf_F fr2 rfl]; exact seg_congr s1 (fun x _ => mf_I fr2 rfl)
      · rw [mf_I fr2 rfl]; exact seg_congr (s2 c' hc') (fun x _ => mf_I fr2 rfl)
      · rw [mf_F fr2 rfl]; exact seg_congr b1 (fun x _ => mf_I fr2 rfl)
      · rw [mf_F fr2 rfl]; exact seg_congr b2 (fun x _ => mf_I fr2 rfl)
      · rw [mf_F fr2 rfl]; exact OB_cg b3 (fun x _ => ⟨mf_I fr2 rfl, mf_I fr2 rfl⟩)
      · rw [mf_F fr2 rfl]; exact b4
      · rw [mf_I fr2 rfl]; exact bm x
    have ch2 : ∀ (l : List Int32), chX σ l → chX (md_pi τ 358 (sF τ 358 - 1)) l := by
      intro l
      induction l with
      | nil => exact fun h => h
      | cons a l ih =>
        intro h
        cases l with
        | nil => exact h
        | cons b l =>
          obtain ⟨p1, p2, p3⟩ := h
          refine ⟨p1, ?_, ih p3⟩
          simp only [sF_pi, sF_pl, sF_ai, sF_al, sG_pi, sG_pl, sG_ai, sG_al, sI_pi, sI_pl, sI_al, sI_ai1, sI_ai2, sJ_pi, sJ_pl, sJ_ai, sJ_al1, sJ_al2, Nat.reduceEqDiff, if_true, if_false, ne_eq, not_false_eq_true, ite_true, ite_false]
          rw [mf_I a3 (kK_f (by omega))]; exact p2
    obtain ⟨υ, b1, b2, b3, b4, b5, b6, b7⟩ := ih e (fU xf c []) (md_pi τ 358 (sF τ 358 - 1)) n X2 (ch2 _ h3) (fun x hx => hm x (List.mem_cons_of_mem _ hx)) n2 (by simp at hn; omega)
    rw [fE_c] at b2
    refine ⟨υ, ?_, b2, mf_tr (mf_pi a3 rfl) b3, ?_, fun x hx => ?_, fun x hx => ?_, b7⟩
    · simp (disch := lia) only [xx5_killAll_b5, lt, gd_in, if_pos, if_neg, ↓reduceIte, gd_z0, gd_z1, gd_tt, sF_fold, sG_fold, sI_fold, sJ_fold, h2]
      rw [a1]
      exact b1
    · rw [b4]
      simp only [sF_pi, sF_pl, sF_ai, sF_al, sG_pi, sG_pl, sG_ai, sG_al, sI_pi, sI_pl, sI_al, sI_ai1, sI_ai2, sJ_pi, sJ_pl, sJ_ai, sJ_al1, sJ_al2, Nat.reduceEqDiff, if_true, if_false, ne_eq, not_false_eq_true, ite_true, ite_false]
      rw [a4, lsum_fU n1]
      have : lsum xf (c :: e :: l) = (xf c).length + lsum xf (e :: l) := by simp only [lsum, List.map_cons, List.sum_cons]
      rw [this, List.length_cons, show (xf c).length + lsum xf (e :: l) + (l.length + 1) = (xf c).length + (lsum xf (e :: l) + l.length) + 1 by omega, ← oN_s, ← oN_add (a := (xf c).length)]
      exact i_sub4 _ _ _
    · rw [b5 x hx]
      simp only [sF_pi, sF_pl, sF_ai, sF_al, sG_pi, sG_pl, sG_ai, sG_al, sI_pi, sI_pl, sI_al, sI_ai1, sI_ai2, sJ_pi, sJ_pl, sJ_ai, sJ_al1, sJ_al2, Nat.reduceEqDiff, if_true, if_false, ne_eq, not_false_eq_true, ite_true, ite_false]
      rw [a5 x hx]
      by_cases q : x ∈ e :: l
      · rw [if_pos q, if_pos (List.mem_cons_of_mem _ q)]
      · by_cases r : x = c
        · rw [if_neg q, if_pos r, if_pos (by rw [r]; exact List.mem_cons_self)]
        · rw [if_neg q, if_neg r, if_neg (fun z => (List.mem_cons.mp z).elim r q)]
    · rw [b6 x hx]
      simp only [sF_pi, sF_pl, sF_ai, sF_al, sG_pi, sG_pl, sG_ai, sG_al, sI_pi, sI_pl, sI_al, sI_ai1, sI_ai2, sJ_pi, sJ_pl, sJ_ai, sJ_al1, sJ_al2, Nat.reduceEqDiff, if_true, if_false, ne_eq, not_false_eq_true, ite_true, ite_false]
      rw [a6 x hx]
      by_cases q : x ∈ e :: l
      · rw [if_pos q, if_pos (List.mem_cons_of_mem _ q)]
      · by_cases r : x = c
        · rw [if_neg q, if_pos r, if_pos (by rw [r]; exact List.mem_cons_self)]
        · rw [if_neg q, if_neg r, if_neg (fun z => (List.mem_cons.mp z).elim r q)]
