/-! LAYER 2: the reference's tables: unchain, bury -/
theorem unc_lp {N : Nat} {σ : mS} {e : Int32} (e0 : 0 ≤ e) (e1 : e < 20000) : ∀ (l1 : List Int32) (n : Nat) (k : Int32) (l2 : List Int32), l1.length < n → seg (fun x => sI σ 37 x - 1) k (l1 ++ e :: l2) (-1) → l1 ≠ [] → (∀ x, x ∈ l1 → 0 ≤ x ∧ x < 20000 ∧ x ≠ e) → ∃ y, y ∈ l1 ∧ mm_unchain_57 N n e k σ = some (md_ai σ 37 y.toNatClampNeg (sI σ 37 e)) ∧ l1.getLastD (-1) = y
  | [], n, k, l2, _, _, h, _ => absurd rfl h
  | x :: l1, n, k, l2, hn, hs, _, hr => by
    obtain ⟨n, rfl⟩ : ∃ j, n = j + 1 := ⟨n - 1, by simp at hn; omega⟩
    obtain ⟨rfl, hs'⟩ := hs
    obtain ⟨x0, x1, x2⟩ := hr k List.mem_cons_self
    rw [mm_unchain_57]
    cases l1 with
    | nil =>
      have q : sI σ 37 k - 1 = e := hs'.1
      refine ⟨k, List.mem_cons_self, ?_, rfl⟩
      clear hr
      simp (disch := lia) only [lt, gd_in, if_pos, if_neg, ↓reduceIte, gd_z0, gd_z1, gd_tt, sF_fold, sG_fold, sI_fold, sJ_fold, q]
    | cons z l1 =>
      have q : sI σ 37 k - 1 = z := hs'.1
      have qz := hr z (by simp)
      obtain ⟨y, y1, y2, y3⟩ := unc_lp (N := N) e0 e1 (z :: l1) n (sI σ 37 k - 1) l2 (by simp at hn ⊢; omega) hs' (by simp) (fun w hw => hr w (List.mem_cons_of_mem _ hw))
      refine ⟨y, List.mem_cons_of_mem _ y1, ?_, by simpa using y3⟩
      have ne : sI σ 37 k - 1 ≠ e := by rw [q]; exact qz.2.2
      clear hr
      simp (disch := lia) only [gd_in, if_neg, sI_fold, lt, ne]
      exact y2
def hc2 (k : Nat) : Bool := [37, 38].contains k
theorem unchain_m {N : Nat} (hN : BIG ≤ N) {σ : mS} {ts : List Int32} {es ps : Int32 → List Int32} {t e : Int32} {A B : List Int32} (F : FM σ ts es ps) (ht : t ∈ ts) (he : es t = A ++ e :: B) (hd : ∀ s, s ∈ ts → s ≠ t → e ∉ es s) (hn : e ∉ A ++ B) : ∃ τ ps', mm_unchain N σ e = some τ ∧ FM τ ts (fU es t (A ++ B)) ps' ∧ m_fr hc2 σ τ := by
  have hm : e ∈ es t := by rw [he]; simp
  obtain ⟨e0, e1, e2, e3⟩ := F.1 t ht e hm
  generalize hp : chf σ (sI σ 31 e) (sI σ 32 e) (sJ σ 33 e) = p
  have pr := @chf_rng σ (sI σ 31 e) (sI σ 32 e) (sJ σ 33 e)
  rw [hp] at pr
  obtain ⟨p0, p1⟩ := pr
  obtain ⟨u1, u2, u3⟩ := F.2.1 p p0 p1
  have me : e ∈ ps p := (u3 e).mpr ⟨⟨t, ht, hm⟩, hp⟩
  obtain ⟨l1, l2, hl⟩ := List.append_of_mem me
  have hr : ∀ x, x ∈ ps p → 0 ≤ x ∧ x < 20000 := fun x hx => by
    obtain ⟨⟨t', w1, w2⟩, _⟩ := (u3 x).mp hx
    exact ⟨(F.1 t' w1 x w2).1, (F.1 t' w1 x w2).2.1⟩
  have len := nd_len (M := 20000) _ u2 (fun x hx => ⟨(hr x hx).1, by have := (hr x hx).2; rw [tI_lt] at this; exact this⟩)
  rw [hl] at u1 u2 len
  simp only [List.length_append, List.length_cons] at len
  simp only [BIG] at hN
  have nl1 : ∀ x, x ∈ l1 → x ≠ e := fun x hx q => (List.nodup_append.mp u2).2.2 x hx e (by simp) q
  have nl2 : ∀ x, x ∈ l2 → x ≠ e := fun x hx q => (List.nodup_cons.mp (List.nodup_append.mp u2).2.1).1 (by rw [← q]; exact hx)
  have ndd : (l1 ++ l2).Nodup := by
    have := u2
    rw [List.nodup_append] at this ⊢
    exact ⟨this.1, (List.nodup_cons.mp this.2.1).2, fun a ha b hb => this.2.2 a ha b (List.mem_cons_of_mem _ hb)⟩
  have mid : ∃ τ, mm_unchain N σ e = some τ ∧ m_fr hc2 σ τ ∧ (∀ q, 0 ≤ q → q < 32768 → q ≠ p → sI τ 38 q = sI σ 38 q) ∧ (∀ x, 0 ≤ x → x ∉ l1 → sI τ 37 x = sI σ 37 x) ∧ seg (fun x => sI τ 37 x - 1) (sI τ 38 p - 1) (l1 ++ l2) (-1) := by
    have pre := chainOf_m (N := N) (t := sI σ 31 e) e3
    rw [hp] at pre
    have pre1 : mm_unchain N σ e = (if sI σ 38 p - 1 = e then some (md_ai σ 38 p.toNatClampNeg (sI σ 37 e)) else mm_unchain_57 N N e (sI σ 38 p - 1) σ) := by
      clear F u3 hr hd nl1 nl2
      simp (disch := lia) only [mm_unchain, gd_in, sI_fold, sJ_fold]
      rw [pre]
      simp (disch := lia) only [bd, gd_in, lt, sI_fold]
    rw [pre1]
    by_cases c : l1 = []
    · subst c
      have q : sI σ 38 p - 1 = e := u1.1
      refine ⟨md_ai σ 38 p.toNatClampNeg (sI σ 37 e), by rw [if_pos q], mf_ai mf_rfl rfl, fun q q0 q1 q2 => by rw [sI_ai p0 q0, if_neg (fun w => q2 w.2)], fun x x0 _ => by rw [sI_ai1 (by decide)], ?_⟩
      rw [sI_ai2]
      refine seg_congr u1.2 (fun x _ => by rw [sI_ai1 (by decide)])
    · obtain ⟨y, y1, y2, y3⟩ := unc_lp (N := N) e0 e1 l1 N (sI σ 38 p - 1) l2 (by omega) u1 c (fun x hx => ⟨(hr x (by rw [hl]; simp [hx])).1, (hr x (by rw [hl]; simp [hx])).2, nl1 x hx⟩)
      have yr := hr y (by rw [hl]; simp [y1])
      have ne : sI σ 38 p - 1 ≠ e := by
        cases l1 with
        | nil => exact absurd rfl c
        | cons z l => rw [u1.1]; exact nl1 z (by simp)
      refine ⟨md_ai σ 37 y.toNatClampNeg (sI σ 37 e), by rw [if_neg ne]; exact y2, mf_ai mf_rfl rfl, fun q q0 q1 q2 => by rw [sI_ai1 (by decide)], fun x x0 x1 => by rw [sI_ai yr.1 x0, if_neg (fun w => x1 (by rw [w.2]; exact y1))], ?_⟩
      rw [sI_ai1 (by decide)]
      refine seg_del u1 y3 c u2 (by rw [sI_ai2]) (fun x hx xy => ?_)
      have xr : 0 ≤ x := (hr x (by rw [hl]; rcases List.mem_append.mp hx with w | w <;> simp [w])).1
      rw [sI_ai yr.1 xr, if_neg (fun w => xy w.2)]
  obtain ⟨τ, g1, fr, g3, g4, g5⟩ := mid
  refine ⟨τ, fU ps p (l1 ++ l2), g1, ?_, fr⟩
  obtain ⟨a1, a2⟩ := mf_M fr ⟨rfl, rfl, rfl, rfl, rfl⟩
  have i1 : ∀ m, sI τ 32 m = sI σ 32 m := fun m => mf_I fr rfl
  have i2 : ∀ m, sJ τ 33 m = sJ σ 33 m := fun m => mf_J fr rfl
  have i3 : ∀ m, sI τ 31 m = sI σ 31 m := fun m => mf_I fr rfl
  have i6 : ∀ m, sI τ 4 m = sI σ 4 m := fun m => mf_I fr rfl
  have sub : ∀ s, s ∈ ts → ∀ x, x ∈ fU es t (A ++ B) s → x ∈ es s ∧ x ≠ e := fun s hs x hx => by
    by_cases c : s = t
    · subst c
      rw [fU_s] at hx
      refine ⟨by rw [he]; rcases List.mem_append.mp hx with w | w <;> simp [w], fun q => hn (by rw [← q]; exact hx)⟩
    · rw [fU_o c] at hx
      exact ⟨hx, fun q => hd s hs c (by rw [← q]; exact hx)⟩
  have sup : ∀ s, s ∈ ts → ∀ x, x ∈ es s → x ≠ e → x ∈ fU es t (A ++ B) s := fun s hs x hx q => by
    by_cases c : s = t
    · subst c
      rw [fU_s]
      rw [he] at hx
      rcases List.mem_append.mp hx with w | w
      · simp [w]
      · rcases List.mem_cons.mp w with z | z
        · exact absurd z q
        · simp [z]
    · rw [fU_o c]; exact hx
  refine ⟨fun s hs x hx => ?_, fun q q0 q1 => ?_, fun s hs x y hx hy k => ?_⟩
  · have w := F.1 s hs x (sub s hs x hx).1
    rw [i1, i2, i3]
    refine ⟨w.1, w.2.1, w.2.2.1, ?_⟩
    simp only [mk_ok, a1]
    exact w.2.2.2
  · have pe : ∀ x, chf τ (sI τ 31 x) (sI τ 32 x) (sJ τ 33 x) = chf σ (sI σ 31 x) (sI σ 32 x) (sJ σ 33 x) := fun x => by
      simp only [chf, i1, i2, i3, i6]
    by_cases c : q = p
    · subst c
      rw [fU_s]
      refine ⟨g5, ndd, fun x => ?_⟩
      rw [pe]
      constructor
      · intro hx
        have xe : x ≠ e := by
          rcases List.mem_append.mp hx with w | w
          · exact nl1 x w
          · exact nl2 x w
        obtain ⟨⟨s, s1, s2⟩, s3⟩ := (u3 x).mp (by rw [hl]; rcases List.mem_append.mp hx with w | w <;> simp [w])
        exact ⟨⟨s, s1, sup s s1 x s2 xe⟩, s3⟩
      · rintro ⟨⟨s, s1, s2⟩, s3⟩
        obtain ⟨z1, z2⟩ := sub s s1 x s2
        have := (u3 x).mpr ⟨⟨s, s1, z1⟩, s3⟩
        rw [hl] at this
        rcases List.mem_append.mp this with w | w
        · simp [w]
        · rcases List.mem_cons.mp w with v | v
          · exact absurd v z2
          · simp [v]
    · rw [fU_o c, g3 q q0 q1 c]
      obtain ⟨v1, v2, v3⟩ := F.2.1 q q0 q1
      refine ⟨seg_congr v1 (fun x hx => ?_), v2, fun x => ?_⟩
      · skip
        rw [g4 x ?_ (fun w => ?_)]
        · obtain ⟨⟨s, s1, s2⟩, _⟩ := (v3 x).mp hx
          exact (F.1 s s1 x s2).1
        · have w1 := ((v3 x).mp hx).2
          have w2 := ((u3 x).mp (by rw [hl]; simp [w])).2
          exact c (by rw [← w1, ← w2])
      · rw [v3, pe]
        constructor
        · rintro ⟨⟨s, s1, s2⟩, s3⟩
          refine ⟨⟨s, s1, sup s s1 x s2 (fun w => ?_)⟩, s3⟩
          subst w
          exact c (by rw [← s3, hp])
        · rintro ⟨⟨s, s1, s2⟩, s3⟩
          exact ⟨⟨s, s1, (sub s s1 x s2).1⟩, s3⟩
  · refine F.2.2 s hs x y (sub s hs x hx).1 (sub s hs y hy).1 ?_
    simp only [mk_eq, i1, i2, a2] at k ⊢
    exact k
