/-! LAYER 2: the reference's collector: entries -/
def keF (k : Nat) : Bool := [21, 22, 24, 28, 29, 30, 36, 37, 38, 39, 40, 41, 239].contains k
/-- an entry is put into the chains -/
theorem FM_in {σ τ : mS} {ts : List Int32} {es ps : Int32 → List Int32} {t e p : Int32} {L : List Int32} (F : FM σ ts (fU es t L) ps) (ht : t ∈ ts) (e0 : 0 ≤ e) (e1 : e < 20000) (et : sI σ 31 e = t) (hk : mk_ok σ (sI σ 32 e) (sJ σ 33 e)) (no : ∀ x, x ∈ L → ¬ mk_eq σ (sI σ 32 x) (sJ σ 33 x) (sI σ 32 e) (sJ σ 33 e)) (e2 : ∀ s, s ∈ ts → e ∉ fU es t L s) (hp : chf σ t (sI σ 32 e) (sJ σ 33 e) = p) (fr : m_fr keF σ τ) (a37 : ∀ x, 0 ≤ x → sI τ 37 x = if x = e then sI σ 38 p else sI σ 37 x) (a38 : ∀ q, 0 ≤ q → sI τ 38 q = if q = p then e + 1 else sI σ 38 q) : FM τ ts (fU es t (L ++ [e])) (fU ps p (e :: ps p)) := by
  have A := mf_M (P := keF) fr ⟨rfl, rfl, rfl, rfl, rfl⟩
  obtain ⟨A1, A2⟩ := A
  have i4 : ∀ m, sI τ 4 m = sI σ 4 m := fun m => mf_I fr rfl
  have i31 : ∀ m, sI τ 31 m = sI σ 31 m := fun m => mf_I fr rfl
  have i32 : ∀ m, sI τ 32 m = sI σ 32 m := fun m => mf_I fr rfl
  have i33 : ∀ m, sJ τ 33 m = sJ σ 33 m := fun m => mf_J fr rfl
  have kok : ∀ a b, mk_ok τ a b ↔ mk_ok σ a b := fun a b => by simp only [mk_ok, A1]
  have keq : ∀ a b c d, mk_eq τ a b c d ↔ mk_eq σ a b c d := fun a b c d => by simp only [mk_eq, A2]
  have pf : ∀ a b c, chf τ a b c = chf σ a b c := fun a b c => by simp only [chf, i4]
  have d37 : sI τ 37 e = sI σ 38 p := by rw [a37 e e0, if_pos rfl]
  have b37 : ∀ x, 0 ≤ x → x ≠ e → sI τ 37 x = sI σ 37 x := fun x x0 c => by rw [a37 x x0, if_neg c]
  have old : ∀ s, s ∈ ts → ∀ x, x ∈ fU es t L s → 0 ≤ x ∧ x ≠ e := fun s hs' x hx => ⟨(F.1 s hs' x hx).1, fun q => e2 s hs' (by rw [← q]; exact hx)⟩
  have mem : ∀ s, ∀ x, x ∈ fU es t (L ++ [e]) s → x ∈ fU es t L s ∨ (s = t ∧ x = e) := fun s x hx => by
    by_cases c : s = t
    · subst c
      rw [fU_s] at hx ⊢
      rcases List.mem_append.mp hx with q | q
      · exact .inl q
      · exact .inr ⟨rfl, by simpa using q⟩
    · rw [fU_o c] at hx ⊢; exact .inl hx
  have sup : ∀ s x, x ∈ fU es t L s → x ∈ fU es t (L ++ [e]) s := fun s x hx => by
    by_cases c : s = t
    · subst c; rw [fU_s] at hx ⊢; simp [hx]
    · rw [fU_o c] at hx ⊢; exact hx
  have eme : e ∈ fU es t (L ++ [e]) t := by rw [fU_s]; simp
  refine ⟨fun s hs' x hx => ?_, fun q q0 q1 => ?_, fun s hs' x y hx hy kq => ?_⟩
  · rw [i31, i32, i33, kok]
    rcases mem s x hx with q | ⟨q1, q2⟩
    · exact F.1 s hs' x q
    · rw [q2, q1]
      exact ⟨e0, e1, et, hk⟩
  · obtain ⟨u1, u2, u3⟩ := F.2.1 q q0 q1
    have om : ∀ x, x ∈ ps q → 0 ≤ x ∧ x ≠ e := fun x hx => by
      obtain ⟨⟨s, s1, s2⟩, _⟩ := (u3 x).mp hx
      exact old s s1 x s2
    have sg : seg (fun x => sI τ 37 x - 1) (sI σ 38 q - 1) (ps q) (-1) := seg_congr u1 (fun x hx => by rw [b37 x (om x hx).1 (om x hx).2])
    have pe : ∀ x, chf τ (sI τ 31 x) (sI τ 32 x) (sJ τ 33 x) = chf σ (sI σ 31 x) (sI σ 32 x) (sJ σ 33 x) := fun x => by rw [pf, i31, i32, i33]
    by_cases c : q = p
    · subst c
      rw [fU_s, a38 q q0, if_pos rfl, show e + 1 - 1 = e by lia]
      refine ⟨⟨rfl, by dsimp only; rw [d37]; exact sg⟩, List.nodup_cons.mpr ⟨fun w => (om e w).2 rfl, u2⟩, fun x => ?_⟩
      rw [List.mem_cons, pe x]
      constructor
      · rintro (w | w)
        · subst w
          exact ⟨⟨t, ht, eme⟩, by rw [et]; exact hp⟩
        · obtain ⟨⟨s, s1, s2⟩, s3⟩ := (u3 x).mp w
          exact ⟨⟨s, s1, sup s x s2⟩, s3⟩
      · rintro ⟨⟨s, s1, s2⟩, s3⟩
        rcases mem s x s2 with w | ⟨_, w⟩
        · exact .inr ((u3 x).mpr ⟨⟨s, s1, w⟩, s3⟩)
        · exact .inl w
    · rw [fU_o c, a38 q q0, if_neg c]
      refine ⟨sg, u2, fun x => ?_⟩
      rw [pe x]
      constructor
      · intro w
        obtain ⟨⟨s, s1, s2⟩, s3⟩ := (u3 x).mp w
        exact ⟨⟨s, s1, sup s x s2⟩, s3⟩
      · rintro ⟨⟨s, s1, s2⟩, s3⟩
        rcases mem s x s2 with w | ⟨_, w⟩
        · exact (u3 x).mpr ⟨⟨s, s1, w⟩, s3⟩
        · rw [w, et, hp] at s3
          exact absurd s3.symm c
  · rw [i32, i33, i32, i33, keq] at kq
    rcases mem s x hx with w | ⟨w1, w2⟩
    · rcases mem s y hy with v | ⟨v1, v2⟩
      · exact F.2.2 s hs' x y w v kq
      · subst v1
        rw [fU_s] at w
        subst v2
        exact absurd kq (no x w)
    · rcases mem s y hy with v | ⟨v1, v2⟩
      · subst w1
        rw [fU_s] at v
        subst w2
        exact absurd (mkeq_sym kq) (no y v)
      · rw [w2, v2]
/-- what the loop over a table's entries keeps; σ is the state at the collector's beginning, es its entries -/
def KEI (σ τ : mS) (Mk : List Int32) (es ps : Int32 → List Int32) (t : Int32) (P R : List Int32) (Ein : List Int32) : Prop :=
  m_fr keF σ τ ∧ FM τ (Mk ++ [t]) (fU (fun s => (es s).filter (alm σ)) t (P.filter (alm σ))) ps ∧ seg (sI τ 36) (sI τ 21 t) (P.filter (alm σ)) (-1) ∧ (∀ x, x ∈ R → sI τ 36 x = sI σ 36 x) ∧ (∀ e, 0 ≤ e → e < 20000 → (sI τ 239 e = 1 ↔ e ∈ Ein ++ P.filter (alm σ)) ∧ (sI τ 239 e = 0 ∨ sI τ 239 e = 1)) ∧ sF τ 41 = Int32.ofNat (Ein ++ P.filter (alm σ)).length ∧ (∀ s, s ∈ Mk → seg (sI τ 36) (sI τ 21 s) ((es s).filter (alm σ)) (-1) ∧ sI τ 22 s = ((es s).filter (alm σ)).getLastD (-1) ∧ sI τ 24 s = 0)
theorem seg_ap1 {nx : Int32 → Int32} {h z : Int32} {K : List Int32} (s : seg nx h K z) (hz : nx z = -1) : seg nx h (K ++ [z]) (-1) := by
  rw [seg_app]
  exact ⟨z, s, rfl, hz⟩
/-- the last one of a chain is made to name another one -/
theorem seg_ret {nx ny : Int32 → Int32} {y z : Int32} : ∀ {K : List Int32} {h : Int32}, seg nx h K (-1) → K ≠ [] → K.getLastD (-1) = y → K.Nodup → ny y = z → (∀ x, x ∈ K → x ≠ y → ny x = nx x) → seg ny h K z
  | [], _, _, h, _, _, _, _ => absurd rfl h
  | [x], h, s, _, hl, _, h1, _ => by
    have : x = y := hl
    subst this
    exact ⟨s.1, h1⟩
  | x :: x' :: K, h, s, _, hl, nd, h1, h2 => by
    have hl' : (x' :: K).getLastD (-1) = y := by simpa using hl
    have ym : y ∈ x' :: K := by
      rw [← hl', List.getLastD_eq_getLast?]
      cases hq : (x' :: K).getLast? with
      | none => simp at hq
      | some a =>
        exact List.mem_of_getLast? hq
    have xn : x ≠ y := fun q => (List.nodup_cons.mp nd).1 (by rw [q]; exact ym)
    refine ⟨s.1, ?_⟩
    rw [h2 x List.mem_cons_self xn]
    exact seg_ret s.2 (by simp) hl' (List.nodup_cons.mp nd).2 h1 (fun w hw ne => h2 w (List.mem_cons_of_mem _ hw) ne)
def keS (τ : mS) (t y e p : Int32) : mS := md_ai (md_ai (md_ai (if 0 ≤ y then md_ai (md_pi (md_ai τ 239 e.toNatClampNeg 1) 41 (sF τ 41 + 1)) 36 y.toNatClampNeg e else md_ai (md_pi (md_ai τ 239 e.toNatClampNeg 1) 41 (sF τ 41 + 1)) 21 t.toNatClampNeg e) 36 e.toNatClampNeg (-1)) 37 e.toNatClampNeg (sI τ 38 p)) 38 p.toNatClampNeg (e + 1)
theorem keS_p {τ : mS} {t y e p : Int32} (t0 : 0 ≤ t) (e0 : 0 ≤ e) (p0 : 0 ≤ p) : (∀ x, 0 ≤ x → sI (keS τ t y e p) 37 x = if x = e then sI τ 38 p else sI τ 37 x) ∧ (∀ q, 0 ≤ q → sI (keS τ t y e p) 38 q = if q = p then e + 1 else sI τ 38 q) ∧ (∀ x, 0 ≤ x → sI (keS τ t y e p) 36 x = if x = e then -1 else if 0 ≤ y ∧ x = y then e else sI τ 36 x) ∧ (∀ s, 0 ≤ s → sI (keS τ t y e p) 21 s = if ¬ 0 ≤ y ∧ s = t then e else sI τ 21 s) ∧ (∀ x, 0 ≤ x → sI (keS τ t y e p) 239 x = if x = e then 1 else sI τ 239 x) ∧ sF (keS τ t y e p) 41 = sF τ 41 + 1 ∧ m_fr (fun k => [21, 36, 37, 38, 41, 239].contains k) τ (keS τ t y e p) := by
  by_cases c : 0 ≤ y
  · simp only [keS, if_pos c]
    refine ⟨fun x x0 => ?_, fun q q0 => ?_, fun x x0 => ?_, fun s s0 => ?_, fun x x0 => ?_, ?_, mf_ai (mf_ai (mf_ai (mf_ai (mf_pi (mf_ai mf_rfl rfl) rfl) rfl) rfl) rfl) rfl⟩
    · rw [sI_ai1 (by decide), sI_ai e0 x0, sI_ai1 (by decide), sI_ai1 (by decide), sI_pi, sI_ai1 (by decide)]
      by_cases h : x = e
      · rw [if_pos ⟨rfl, h⟩, if_pos h]
      · rw [if_neg (fun q => h q.2), if_neg h]
    · rw [sI_ai p0 q0, sI_ai1 (by decide), sI_ai1 (by decide), sI_ai1 (by decide), sI_pi, sI_ai1 (by decide)]
      by_cases h : q = p
      · rw [if_pos ⟨rfl, h⟩, if_pos h]
      · rw [if_neg (fun q => h q.2), if_neg h]
    · rw [sI_ai1 (by decide), sI_ai1 (by decide), sI_ai e0 x0, sI_ai c x0, sI_pi, sI_ai1 (by decide)]
      by_cases h : x = e
      · rw [if_pos ⟨rfl, h⟩, if_pos h]
      · rw [if_neg (fun q => h q.2), if_neg h]
        by_cases h' : x = y
        · rw [if_pos ⟨rfl, h'⟩, if_pos ⟨c, h'⟩]
        · rw [if_neg (fun q => h' q.2), if_neg (fun q => h' q.2)]
    · rw [sI_ai1 (by decide), sI_ai1 (by decide), sI_ai1 (by decide), sI_ai1 (by decide), sI_pi, sI_ai1 (by decide), if_neg (fun q => q.1 c)]
    · rw [sI_ai1 (by decide), sI_ai1 (by decide), sI_ai1 (by decide), sI_ai1 (by decide), sI_pi, sI_ai e0 x0]
      by_cases h : x = e
      · rw [if_pos ⟨rfl, h⟩, if_pos h]
      · rw [if_neg (fun q => h q.2), if_neg h]
    · simp only [sF_pi, sF_pl, sF_ai, sF_al, sG_pi, sG_pl, sG_ai, sG_al, sI_pi, sI_pl, sI_al, sI_ai1, sI_ai2, sJ_pi, sJ_pl, sJ_ai, sJ_al1, sJ_al2, Nat.reduceEqDiff, if_true, if_false, ne_eq, not_false_eq_true, ite_true, ite_false]
  · simp only [keS, if_neg c]
    refine ⟨fun x x0 => ?_, fun q q0 => ?_, fun x x0 => ?_, fun s s0 => ?_, fun x x0 => ?_, ?_, mf_ai (mf_ai (mf_ai (mf_ai (mf_pi (mf_ai mf_rfl rfl) rfl) rfl) rfl) rfl) rfl⟩
    · rw [sI_ai1 (by decide), sI_ai e0 x0, sI_ai1 (by decide), sI_ai1 (by decide), sI_pi, sI_ai1 (by decide)]
      by_cases h : x = e
      · rw [if_pos ⟨rfl, h⟩, if_pos h]
      · rw [if_neg (fun q => h q.2), if_neg h]
    · rw [sI_ai p0 q0, sI_ai1 (by decide), sI_ai1 (by decide), sI_ai1 (by decide), sI_pi, sI_ai1 (by decide)]
      by_cases h : q = p
      · rw [if_pos ⟨rfl, h⟩, if_pos h]
      · rw [if_neg (fun q => h q.2), if_neg h]
    · rw [sI_ai1 (by decide), sI_ai1 (by decide), sI_ai e0 x0, sI_ai1 (by decide), sI_pi, sI_ai1 (by decide)]
      by_cases h : x = e
      · rw [if_pos ⟨rfl, h⟩, if_pos h]
      · rw [if_neg (fun q => h q.2), if_neg h, if_neg (fun q => c q.1)]
    · rw [sI_ai1 (by decide), sI_ai1 (by decide), sI_ai1 (by decide), sI_ai t0 s0, sI_pi, sI_ai1 (by decide)]
      by_cases h : s = t
      · rw [if_pos ⟨rfl, h⟩, if_pos ⟨c, h⟩]
      · rw [if_neg (fun q => h q.2), if_neg (fun q => h q.2)]
    · rw [sI_ai1 (by decide), sI_ai1 (by decide), sI_ai1 (by decide), sI_ai1 (by decide), sI_pi, sI_ai e0 x0]
      by_cases h : x = e
      · rw [if_pos ⟨rfl, h⟩, if_pos h]
      · rw [if_neg (fun q => h q.2), if_neg h]
    · simp only [sF_pi, sF_pl, sF_ai, sF_al, sG_pi, sG_pl, sG_ai, sG_al, sI_pi, sI_pl, sI_al, sI_ai1, sI_ai2, sJ_pi, sJ_pl, sJ_ai, sJ_al1, sJ_al2, Nat.reduceEqDiff, if_true, if_false, ne_eq, not_false_eq_true, ite_true, ite_false]
theorem flt_s {p : Int32 → Bool} {P : List Int32} {e : Int32} : (P ++ [e]).filter p = if p e = true then P.filter p ++ [e] else P.filter p := by
  rw [List.filter_append]
  by_cases h : p e = true
  · rw [if_pos h]; simp [h]
  · rw [if_neg h]; simp [h]
theorem lastD_m {K : List Int32} (h : K ≠ []) : K.getLastD (-1) ∈ K := by
  rw [List.getLastD_eq_getLast?]
  cases hq : K.getLast? with
  | none => rw [List.getLast?_eq_none_iff] at hq; exact absurd hq h
  | some a => exact List.mem_of_getLast? hq
theorem KE_step {σ τ : mS} {ts Mk : List Int32} {es ps ps0 : Int32 → List Int32} {t e p : Int32} {P R Ein : List Int32} (M0 : FM σ ts es ps0) (nd : (es t).Nodup) (ht : t ∈ ts) (t0 : 0 ≤ t) (hMk : ∀ s, s ∈ Mk → s ∈ ts) (m0 : ∀ s, s ∈ Mk → 0 ≤ s) (tn : t ∉ Mk) (he : es t = P ++ e :: R) (S : KEI σ τ Mk es ps t P (e :: R) Ein) (lv : alm σ e = true) (hp : chf σ t (sI σ 32 e) (sJ σ 33 e) = p) : KEI σ (keS τ t ((P.filter (alm σ)).getLastD (-1)) e p) Mk es (fU ps p (e :: ps p)) t (P ++ [e]) R Ein := by
  obtain ⟨fr, F, s1, s2, s3, s4, s5⟩ := S
  have em : e ∈ es t := by rw [he]; simp
  obtain ⟨e0, e1, e31, eok⟩ := M0.1 t ht e em
  have pr := @chf_rng σ t (sI σ 32 e) (sJ σ 33 e)
  rw [hp] at pr
  have rge : ∀ s, s ∈ ts → ∀ x, x ∈ es s → 0 ≤ x ∧ sI σ 31 x = s := fun s hs x hx => ⟨(M0.1 s hs x hx).1, (M0.1 s hs x hx).2.2.1⟩
  have nd' := nd
  rw [he] at nd'
  have eP : e ∉ P := fun q => (List.nodup_append.mp nd').2.2 e q e List.mem_cons_self rfl
  have eR : e ∉ R := (List.nodup_cons.mp (List.nodup_append.mp nd').2.1).1
  have PR' : ∀ x, x ∈ P → x ∉ e :: R := fun x hx q => (List.nodup_append.mp nd').2.2 x hx x q rfl
  have Pm : ∀ x, x ∈ P → x ∈ es t := fun x hx => by rw [he]; exact List.mem_append.mpr (.inl hx)
  have Rm : ∀ x, x ∈ R → x ∈ es t := fun x hx => by rw [he]; exact List.mem_append.mpr (.inr (List.mem_cons_of_mem _ hx))
  have KP : ∀ x, x ∈ P.filter (alm σ) → x ∈ P := fun x hx => (List.mem_filter.mp hx).1
  have ndK : (P.filter (alm σ)).Nodup := (List.nodup_append.mp nd').1.filter _
  generalize hy : (P.filter (alm σ)).getLastD (-1) = y at *
  have yK : P.filter (alm σ) = [] ∧ y = -1 ∨ P.filter (alm σ) ≠ [] ∧ y ∈ P.filter (alm σ) ∧ 0 ≤ y := by
    by_cases h : P.filter (alm σ) = []
    · rw [h] at hy
      exact .inl ⟨h, hy.symm⟩
    · have m := lastD_m h
      rw [hy] at m
      exact .inr ⟨h, m, (rge t ht y (Pm y (KP y m))).1⟩
  obtain ⟨k37, k38, k36, k21, k239, k41, kfr⟩ := keS_p (τ := τ) (t := t) (y := y) (e := e) (p := p) t0 e0 pr.1
  have ff := flt_s (p := alm σ) (P := P) (e := e)
  rw [if_pos lv] at ff
  have kin : ∀ {k : Nat}, keF k = false → [21, 36, 37, 38, 41, 239].contains k = false := fun {k} hk => by
    simp only [keF, List.contains_cons, List.contains_nil, Bool.or_eq_false_iff, beq_eq_false_iff_ne] at hk
    simp only [List.contains_cons, List.contains_nil, Bool.or_eq_false_iff, beq_eq_false_iff_ne]; (repeat' (first | exact trivial | omega | apply And.intro))
  generalize keS τ t y e p = υ at *
  have frυ : m_fr keF σ υ := mf_tr fr (mf_mono kfr (fun k hk => kin hk))
  have frk : m_fr keF τ υ := mf_mono kfr (fun k hk => kin hk)
  have i32 : ∀ m, sI τ 32 m = sI σ 32 m := fun m => mf_I fr rfl
  have i33 : ∀ m, sJ τ 33 m = sJ σ 33 m := fun m => mf_J fr rfl
  have i31 : ∀ m, sI τ 31 m = sI σ 31 m := fun m => mf_I fr rfl
  have i4 : ∀ m, sI τ 4 m = sI σ 4 m := fun m => mf_I fr rfl
  have A := mf_M (P := keF) fr ⟨rfl, rfl, rfl, rfl, rfl⟩
  have nin : ∀ s, s ∈ Mk → ∀ x, x ∈ es s → x ∉ es t := fun s hs x hx q => tn (by
    have a := (rge s (hMk s hs) x hx).2
    have b := (rge t ht x q).2
    rw [a] at b
    rw [← b]; exact hs)
  refine ⟨frυ, ?_, ?_, fun x hx => ?_, fun x x0 x1 => ?_, ?_, fun s hs => ?_⟩
  · rw [ff]
    refine FM_in F (List.mem_append.mpr (.inr (List.mem_singleton.mpr rfl))) e0 e1 (by rw [i31]; exact e31) ?_ (fun x hx kq => ?_) (fun s hs q => ?_) ?_ frk k37 k38
    · rw [i32, i33]
      simp only [mk_ok, A.1] at eok ⊢
      exact eok
    · rw [i32, i33, i32, i33] at kq
      simp only [mk_eq, A.2] at kq
      have := M0.2.2 t ht x e (Pm x (KP x hx)) em kq
      exact eP (by rw [← this]; exact KP x hx)
    · rcases List.mem_append.mp hs with h | h
      · have ne : s ≠ t := fun q => tn (by rw [← q]; exact h)
        rw [fU_o ne] at q
        exact nin s h e (List.mem_filter.mp q).1 em
      · rw [List.mem_singleton] at h
        subst h
        rw [fU_s] at q
        exact eP (KP e q)
    · rw [i32, i33]
      simp only [chf, i4]
      exact hp
  · rw [ff, k21 t t0]
    rcases yK with ⟨h1, h2⟩ | ⟨h1, h2, h3⟩
    · rw [h1, if_pos ⟨by rw [h2]; decide, rfl⟩]
      refine ⟨rfl, ?_⟩
      rw [k36 e e0, if_pos rfl]
      rfl
    · rw [if_neg (fun q => q.1 h3)]
      have ye : y ≠ e := fun q => eP (by rw [← q]; exact KP y h2)
      refine seg_ap1 (seg_ret s1 h1 hy ndK ?_ (fun x hx ne => ?_)) ?_
      · rw [k36 y h3, if_neg ye, if_pos ⟨h3, rfl⟩]
      · rw [k36 x (rge t ht x (Pm x (KP x hx))).1, if_neg (fun q => eP (by rw [← q]; exact KP x hx)), if_neg (fun q => ne q.2)]
      · rw [k36 e e0, if_pos rfl]
  · have x0 := (rge t ht x (Rm x hx)).1
    rw [k36 x x0, if_neg (fun q => eR (by rw [← q]; exact hx)), if_neg (fun q => by
      rcases yK with ⟨h1, h2⟩ | ⟨h1, h2, h3⟩
      · rw [h2] at q; exact absurd q.1 (by decide)
      · exact PR' y (KP y h2) (by rw [← q.2]; exact List.mem_cons_of_mem _ hx))]
    exact s2 x (List.mem_cons_of_mem _ hx)
  · rw [k239 x x0, ff]
    obtain ⟨g1, g2⟩ := s3 x x0 x1
    by_cases c : x = e
    · rw [if_pos c]
      exact ⟨⟨fun _ => by rw [c]; simp, fun _ => rfl⟩, .inr rfl⟩
    · rw [if_neg c]
      refine ⟨?_, g2⟩
      rw [g1]
      simp [c]
  · rw [k41, s4, ff, oN_s]
    congr 1
    simp only [List.length_append, List.length_singleton]
    omega
  · obtain ⟨g1, g2, g3⟩ := s5 s hs
    have ne : s ≠ t := fun q => tn (by rw [← q]; exact hs)
    rw [k21 s (m0 s hs), if_neg (fun q => ne q.2), mf_I kfr (k := 22) rfl, mf_I kfr (k := 24) rfl]
    refine ⟨seg_congr g1 (fun x hx => ?_), g2, g3⟩
    have xs := (List.mem_filter.mp hx).1
    have xt := nin s hs x xs
    rw [k36 x (rge s (hMk s hs) x xs).1, if_neg (fun q => xt (by rw [q]; exact em)), if_neg (fun q => by
      rcases yK with ⟨h1, h2⟩ | ⟨h1, h2, h3⟩
      · rw [h2] at q; exact absurd q.1 (by decide)
      · exact xt (by rw [q.2]; exact Pm y (KP y h2)))]
/-- one that is dead -/
theorem KE_dead {σ τ : mS} {Mk : List Int32} {es ps : Int32 → List Int32} {t e : Int32} {P R Ein : List Int32} (S : KEI σ τ Mk es ps t P (e :: R) Ein) (lv : ¬ alm σ e = true) : KEI σ τ Mk es ps t (P ++ [e]) R Ein := by
  have ff := flt_s (p := alm σ) (P := P) (e := e)
  rw [if_neg lv] at ff
  obtain ⟨fr, F, s1, s2, s3, s4, s5⟩ := S
  refine ⟨fr, by rw [ff]; exact F, by rw [ff]; exact s1, fun x hx => s2 x (List.mem_cons_of_mem _ hx), by rw [ff]; exact s3, by rw [ff]; exact s4, s5⟩
