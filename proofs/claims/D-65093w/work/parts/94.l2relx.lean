/-! LAYER 2: the system's tables: release, bury -/
/-- the pile without e -/
theorem rel_lp {N : Nat} {σ : mS} {e : Int32} (e0 : 0 ≤ e) (e1 : e < 20000) : ∀ (l1 : List Int32) (n : Nat) (k : Int32) (l2 : List Int32), l1.length < n → seg (sI σ 218) k (l1 ++ e :: l2) (-1) → l1 ≠ [] → (∀ x, x ∈ l1 → 0 ≤ x ∧ x < 20000 ∧ x ≠ e) → ∃ y, y ∈ l1 ∧ xx3_release_b55 N n e k σ = xx3_release_b87 N e (md_ai σ 218 y.toNatClampNeg (sI σ 218 e)) ∧ l1.getLastD (-1) = y
  | [], n, k, l2, _, _, h, _ => absurd rfl h
  | x :: l1, n, k, l2, hn, hs, _, hr => by
    obtain ⟨n, rfl⟩ : ∃ j, n = j + 1 := ⟨n - 1, by simp at hn; omega⟩
    obtain ⟨rfl, hs'⟩ := hs
    obtain ⟨x0, x1, x2⟩ := hr k List.mem_cons_self
    rw [xx3_release_b55]
    cases l1 with
    | nil =>
      have q : sI σ 218 k = e := hs'.1
      refine ⟨k, List.mem_cons_self, ?_, rfl⟩
      clear hr
      simp (disch := lia) only [lt, gd_in, if_pos, if_neg, ↓reduceIte, gd_z0, gd_z1, gd_tt, sF_fold, sG_fold, sI_fold, sJ_fold, q]
    | cons z l1 =>
      have q : sI σ 218 k = z := hs'.1
      have qz := hr z (by simp)
      obtain ⟨y, y1, y2, y3⟩ := rel_lp (N := N) e0 e1 (z :: l1) n (sI σ 218 k) l2 (by simp at hn ⊢; omega) hs' (by simp) (fun w hw => hr w (List.mem_cons_of_mem _ hw))
      refine ⟨y, List.mem_cons_of_mem _ y1, ?_, by simpa using y3⟩
      have ne : sI σ 218 k ≠ e := by rw [q]; exact qz.2.2
      clear hr
      simp (disch := lia) only [gd_in, if_neg, sI_fold, lt, ne]
      exact y2
theorem seg_del {nx ny : Int32 → Int32} {k e y d : Int32} {l1 l2 : List Int32} (hs : seg nx k (l1 ++ e :: l2) d) (hl : l1.getLastD (-1) = y) (hne : l1 ≠ []) (nd : (l1 ++ e :: l2).Nodup) (h1 : ny y = nx e) (h2 : ∀ x, x ∈ l1 ++ l2 → x ≠ y → ny x = nx x) : seg ny k (l1 ++ l2) d := by
  rcases List.eq_nil_or_concat l1 with q | ⟨l, z, q⟩
  · exact absurd q hne
  · subst q
    simp only [List.concat_eq_append] at *
    have : z = y := by rw [← hl]; simp
    subst this
    rw [seg_app] at hs
    obtain ⟨m, s1, s2⟩ := hs
    rw [seg_app] at s1
    obtain ⟨m', s3, s4⟩ := s1
    rw [seg_app]
    refine ⟨ny z, ?_, ?_⟩
    · rw [seg_app]
      refine ⟨m', seg_congr s3 (fun x hx => h2 x (by simp [hx]) (fun w => ?_)), s4.1, rfl⟩
      subst w
      have := (List.nodup_append.mp (List.nodup_append.mp nd).1).2.2 x hx x (by simp)
      exact this rfl
    · rw [h1]
      have := s2.2
      refine seg_congr this (fun x hx => h2 x (by simp [hx]) (fun w => ?_))
      subst w
      exact (List.nodup_append.mp nd).2.2 x (by simp) x (by simp [hx]) rfl
def hW (k : Nat) : Bool := [217, 218, 219, 220, 221].contains k
theorem release_x {N : Nat} (hN : BIG ≤ N) {σ : mS} {ts : List Int32} {es ps : Int32 → List Int32} {t e : Int32} {A B : List Int32} (F : FX σ ts es ps) (ht : t ∈ ts) (he : es t = A ++ e :: B) (hd : ∀ s, s ∈ ts → s ≠ t → e ∉ es s) (hn : e ∉ A ++ B) : ∃ τ ps', xx3_release N σ e = some τ ∧ FX τ ts (fU es t (A ++ B)) ps' ∧ (∀ x, 0 ≤ x → sI τ 217 x = if x = e then sF σ 219 else sI σ 217 x) ∧ sF τ 219 = e ∧ sF τ 220 = sF σ 220 - 1 ∧ m_fr hW σ τ := by
  have hm : e ∈ es t := by rw [he]; simp
  obtain ⟨e0, e1, e2, e3⟩ := F.1 t ht e hm
  generalize hp : pilf σ (sI σ 216 e) (sI σ 212 e) (sJ σ 213 e) = p
  have pr := @pilf_rng σ (sI σ 216 e) (sI σ 212 e) (sJ σ 213 e)
  rw [hp] at pr
  obtain ⟨p0, p1⟩ := pr
  obtain ⟨u1, u2, u3⟩ := F.2.1 p p0 p1
  have me : e ∈ ps p := (u3 e).mpr ⟨⟨t, ht, hm⟩, hp⟩
  obtain ⟨l1, l2, hl⟩ := List.append_of_mem me
  have hr : ∀ x, x ∈ ps p → 0 ≤ x ∧ x < 20000 := fun x hx => by
    obtain ⟨⟨t', w1, w2⟩, _⟩ := (u3 x).mp hx
    exact ⟨(F.1 t' w1 x w2).1, (F.1 t' w1 x w2).2.1⟩
  have len := nd_len (M := 20000) _ u2 (fun x hx => ⟨(hr x hx).1, by have := (hr x hx).2; rw [tI_lt] at this; exact this⟩)
  rw [hl] at u1 u2 len
  simp only [List.length_append, List.length_cons] at len
  simp only [BIG] at hN
  have nl1 : ∀ x, x ∈ l1 → x ≠ e := fun x hx q => (List.nodup_append.mp u2).2.2 x hx e (by simp) q
  have nl2 : ∀ x, x ∈ l2 → x ≠ e := fun x hx q => (List.nodup_cons.mp (List.nodup_append.mp u2).2.1).1 (by rw [← q]; exact hx)
  have ndd : (l1 ++ l2).Nodup := by
    have := u2
    rw [List.nodup_append] at this ⊢
    exact ⟨this.1, (List.nodup_cons.mp this.2.1).2, fun a ha b hb => this.2.2 a ha b (List.mem_cons_of_mem _ hb)⟩
  -- the state behind the unlinking
  have mid : ∃ σ8, xx3_release N σ e = xx3_release_b87 N e σ8 ∧ m_fr (fun k => [218, 221].contains k) σ σ8 ∧ (∀ q, 0 ≤ q → q < 32768 → q ≠ p → sI σ8 221 q = sI σ 221 q) ∧ (∀ x, 0 ≤ x → x ∉ l1 → sI σ8 218 x = sI σ 218 x) ∧ seg (sI σ8 218) (sI σ8 221 p) (l1 ++ l2) (-1) := by
    have pre := pile_x (N := N) (t := sI σ 216 e) e3
    rw [hp] at pre
    have pre1 : xx3_release N σ e = (if sI σ 221 p = e then xx3_release_b87 N e (md_ai σ 221 p.toNatClampNeg (sI σ 218 e)) else xx3_release_b55 N N e (sI σ 221 p) σ) := by
      clear F u3 hr hd nl1 nl2
      simp (disch := lia) only [xx3_release, gd_in, sI_fold, sJ_fold]
      rw [pre]
      simp (disch := lia) only [bd, gd_in, lt, sI_fold]
    rw [pre1]
    by_cases c : l1 = []
    · subst c
      have q : sI σ 221 p = e := u1.1
      refine ⟨md_ai σ 221 p.toNatClampNeg (sI σ 218 e), by rw [if_pos q], mf_ai mf_rfl rfl, fun q q0 q1 q2 => by rw [sI_ai p0 q0, if_neg (fun w => q2 w.2)], fun x x0 _ => by rw [sI_ai1 (by decide)], ?_⟩
      rw [sI_ai2]
      refine seg_congr u1.2 (fun x _ => by rw [sI_ai1 (by decide)])
    · obtain ⟨y, y1, y2, y3⟩ := rel_lp (N := N) e0 e1 l1 N (sI σ 221 p) l2 (by omega) u1 c (fun x hx => ⟨(hr x (by rw [hl]; simp [hx])).1, (hr x (by rw [hl]; simp [hx])).2, nl1 x hx⟩)
      have yr := hr y (by rw [hl]; simp [y1])
      have ne : sI σ 221 p ≠ e := by
        cases l1 with
        | nil => exact absurd rfl c
        | cons z l => rw [u1.1]; exact nl1 z (by simp)
      refine ⟨md_ai σ 218 y.toNatClampNeg (sI σ 218 e), by rw [if_neg ne]; exact y2, mf_ai mf_rfl rfl, fun q q0 q1 q2 => by rw [sI_ai1 (by decide)], fun x x0 x1 => by rw [sI_ai yr.1 x0, if_neg (fun w => x1 (by rw [w.2]; exact y1))], ?_⟩
      rw [sI_ai1 (by decide)]
      refine seg_del u1 y3 c u2 (by rw [sI_ai2]) (fun x hx xy => ?_)
      have xr : 0 ≤ x := (hr x (by rw [hl]; rcases List.mem_append.mp hx with w | w <;> simp [w])).1
      rw [sI_ai yr.1 xr, if_neg (fun w => xy w.2)]
  obtain ⟨σ8, g1, g2, g3, g4, g5⟩ := mid
  refine ⟨md_pi (md_pi (md_ai σ8 217 e.toNatClampNeg (sF σ 219)) 219 e) 220 (sF σ 220 - 1), fU ps p (l1 ++ l2), ?_, ?_, fun x x0 => ?_, by simp only [sF_pi, sF_pl, sF_ai, sF_al, sG_pi, sG_pl, sG_ai, sG_al, sI_pi, sI_pl, sI_al, sI_ai1, sI_ai2, sJ_pi, sJ_pl, sJ_ai, sJ_al1, sJ_al2, Nat.reduceEqDiff, if_true, if_false, ne_eq, not_false_eq_true, ite_true, ite_false], by simp only [sF_pi, sF_pl, sF_ai, sF_al, sG_pi, sG_pl, sG_ai, sG_al, sI_pi, sI_pl, sI_al, sI_ai1, sI_ai2, sJ_pi, sJ_pl, sJ_ai, sJ_al1, sJ_al2, Nat.reduceEqDiff, if_true, if_false, ne_eq, not_false_eq_true, ite_true, ite_false], ?_⟩
  · rw [g1]
    have f1 : sF σ8 219 = sF σ 219 := mf_F g2 rfl
    have f2 : sF σ8 220 = sF σ 220 := mf_F g2 rfl
    clear F u3 hr hd nl1 nl2 g5 g4 g3 hn hp
    simp (disch := lia) only [xx3_release_b87, lt, gd_in, if_pos, if_neg, ↓reduceIte, gd_z0, gd_z1, gd_tt, sF_fold, sG_fold, sI_fold, sJ_fold, sF_pi, sF_pl, sF_ai, sF_al, sG_pi, sG_pl, sG_ai, sG_al, sI_pi, sI_pl, sI_al, sI_ai1, sI_ai2, sJ_pi, sJ_pl, sJ_ai, sJ_al1, sJ_al2, Nat.reduceEqDiff, if_true, if_false, ne_eq, not_false_eq_true, ite_true, ite_false, f1, f2]
  · have fr : m_fr hW σ (md_pi (md_pi (md_ai σ8 217 e.toNatClampNeg (sF σ 219)) 219 e) 220 (sF σ 220 - 1)) := by
      refine mf_pi (mf_pi (mf_ai (mf_mono g2 (fun k hk => ?_)) rfl) rfl) rfl
      simp only [hW, List.contains_cons, List.contains_nil, Bool.or_eq_false_iff] at hk ⊢
      exact ⟨hk.2.1, hk.2.2.2.2.1, trivial⟩
    obtain ⟨a1, a2, _⟩ := mf_FX fr ⟨rfl, rfl, rfl, rfl, rfl, rfl⟩
    generalize hτ : md_pi (md_pi (md_ai σ8 217 e.toNatClampNeg (sF σ 219)) 219 e) 220 (sF σ 220 - 1) = τ at *
    have i1 : ∀ m, sI τ 212 m = sI σ 212 m := fun m => mf_I fr rfl
    have i2 : ∀ m, sJ τ 213 m = sJ σ 213 m := fun m => mf_J fr rfl
    have i3 : ∀ m, sI τ 216 m = sI σ 216 m := fun m => mf_I fr rfl
    have i6 : ∀ m, sI τ 130 m = sI σ 130 m := fun m => mf_I fr rfl
    have i4 : sI τ 218 = sI σ8 218 := by funext m; rw [← hτ, sI_pi, sI_pi, sI_ai1 (by decide)]
    have i5 : ∀ m, sI τ 221 m = sI σ8 221 m := fun m => by rw [← hτ, sI_pi, sI_pi, sI_ai1 (by decide)]
    have sub : ∀ s, s ∈ ts → ∀ x, x ∈ fU es t (A ++ B) s → x ∈ es s ∧ x ≠ e := fun s hs x hx => by
      by_cases c : s = t
      · subst c
        rw [fU_s] at hx
        refine ⟨by rw [he]; rcases List.mem_append.mp hx with w | w <;> simp [w], fun q => hn (by rw [← q]; exact hx)⟩
      · rw [fU_o c] at hx
        exact ⟨hx, fun q => hd s hs c (by rw [← q]; exact hx)⟩
    have sup : ∀ s, s ∈ ts → ∀ x, x ∈ es s → x ≠ e → x ∈ fU es t (A ++ B) s := fun s hs x hx q => by
      by_cases c : s = t
      · subst c
        rw [fU_s]
        rw [he] at hx
        rcases List.mem_append.mp hx with w | w
        · simp [w]
        · rcases List.mem_cons.mp w with z | z
          · exact absurd z q
          · simp [z]
      · rw [fU_o c]; exact hx
    refine ⟨fun s hs x hx => ?_, fun q q0 q1 => ?_, fun s hs x y hx hy k => ?_⟩
    · have w := F.1 s hs x (sub s hs x hx).1
      rw [i1, i2, i3]
      refine ⟨w.1, w.2.1, w.2.2.1, ?_⟩
      simp only [k_ok, a1]
      exact w.2.2.2
    · rw [i4, i5]
      have pe : ∀ x, pilf τ (sI τ 216 x) (sI τ 212 x) (sJ τ 213 x) = pilf σ (sI σ 216 x) (sI σ 212 x) (sJ σ 213 x) := fun x => by
        simp only [pilf, i1, i2, i3, i6]
      by_cases c : q = p
      · subst c
        rw [fU_s]
        refine ⟨g5, ndd, fun x => ?_⟩
        rw [pe]
        constructor
        · intro hx
          have xe : x ≠ e := by
            rcases List.mem_append.mp hx with w | w
            · exact nl1 x w
            · exact nl2 x w
          obtain ⟨⟨s, s1, s2⟩, s3⟩ := (u3 x).mp (by rw [hl]; rcases List.mem_append.mp hx with w | w <;> simp [w])
          exact ⟨⟨s, s1, sup s s1 x s2 xe⟩, s3⟩
        · rintro ⟨⟨s, s1, s2⟩, s3⟩
          obtain ⟨z1, z2⟩ := sub s s1 x s2
          have := (u3 x).mpr ⟨⟨s, s1, z1⟩, s3⟩
          rw [hl] at this
          rcases List.mem_append.mp this with w | w
          · simp [w]
          · rcases List.mem_cons.mp w with v | v
            · exact absurd v z2
            · simp [v]
      · rw [fU_o c, g3 q q0 q1 c]
        obtain ⟨v1, v2, v3⟩ := F.2.1 q q0 q1
        refine ⟨seg_congr v1 (fun x hx => g4 x ?_ (fun w => ?_)), v2, fun x => ?_⟩
        · obtain ⟨⟨s, s1, s2⟩, _⟩ := (v3 x).mp hx
          exact (F.1 s s1 x s2).1
        · have w1 := ((v3 x).mp hx).2
          have w2 := ((u3 x).mp (by rw [hl]; simp [w])).2
          exact c (by rw [← w1, ← w2])
        · rw [v3, pe]
          constructor
          · rintro ⟨⟨s, s1, s2⟩, s3⟩
            refine ⟨⟨s, s1, sup s s1 x s2 (fun w => ?_)⟩, s3⟩
            subst w
            exact c (by rw [← s3, hp])
          · rintro ⟨⟨s, s1, s2⟩, s3⟩
            exact ⟨⟨s, s1, (sub s s1 x s2).1⟩, s3⟩
    · refine F.2.2 s hs x y (sub s hs x hx).1 (sub s hs y hy).1 ?_
      simp only [k_eq, i1, i2, a2] at k ⊢
      exact k
  · rw [sI_pi, sI_pi, sI_ai e0 x0]
    simp only [true_and]
    rw [mf_I g2 rfl]
  · refine mf_pi (mf_pi (mf_ai (mf_mono g2 (fun k hk => ?_)) rfl) rfl) rfl
    simp only [hW, List.contains_cons, List.contains_nil, Bool.or_eq_false_iff] at hk ⊢
    exact ⟨hk.2.1, hk.2.2.2.2.1, trivial⟩
