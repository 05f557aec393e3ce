/-! LAYER 2: the system's tables: a new entry -/
def hE (k : Nat) : Bool := [197, 198, 199, 208, 212, 213, 214, 215, 216, 217, 218, 219, 220, 221].contains k
theorem ent_pst {σ τ : mS} {ts ff fh : List Int32} {es ps hs : Int32 → List Int32} {t e kt tag p : Int32} {k : Int64} (M : MX σ ts es ps hs (e :: ff) fh) (ht : t ∈ ts) (hk : k_ok σ kt k) (no : ∀ x, x ∈ es t → ¬ k_eq σ (sI σ 212 x) (sJ σ 213 x) kt k) (hp : pilf σ t kt k = p) (htag : tag ≠ 0) (fr : m_fr hE σ τ) (a212 : ∀ x, 0 ≤ x → sI τ 212 x = if x = e then kt else sI σ 212 x) (a213 : ∀ x, 0 ≤ x → sJ τ 213 x = if x = e then k else sJ σ 213 x) (a214 : ∀ x, 0 ≤ x → sI τ 214 x = if x = e then tag else sI σ 214 x) (a216 : ∀ x, 0 ≤ x → sI τ 216 x = if x = e then t else sI σ 216 x) (a208 : ∀ x, 0 ≤ x → sI τ 208 x = if x = e then 0 else sI σ 208 x) (a217 : sI τ 217 e = -1) (b217 : ∀ x, 0 ≤ x → x ≠ e → x ≠ sI σ 198 t → sI τ 217 x = sI σ 217 x) (c217 : sI σ 198 t ≠ -1 → sI τ 217 (sI σ 198 t) = e) (a218 : ∀ x, 0 ≤ x → sI τ 218 x = if x = e then sI σ 221 p else sI σ 218 x) (a221 : ∀ q, 0 ≤ q → sI τ 221 q = if q = p then e else sI σ 221 q) (a197 : ∀ s, 0 ≤ s → sI τ 197 s = if s = t ∧ sI σ 198 t = -1 then e else sI σ 197 s) (a198 : ∀ s, 0 ≤ s → sI τ 198 s = if s = t then e else sI σ 198 s) (a199 : ∀ s, 0 ≤ s → sI τ 199 s = if s = t then sI σ 199 t + 1 else sI σ 199 s) (f219 : sF τ 219 = sI σ 217 e) (f220 : sF τ 220 = sF σ 220 + 1) : FX τ ts (fU es t (es t ++ [e])) (fU ps p (e :: ps p)) ∧ EX τ ts (fU es t (es t ++ [e])) ff ∧ HS τ ts (fU es t (es t ++ [e])) hs fh ∧ (∀ s, s ∈ ts → s ≠ t → HB τ (fU es t (es t ++ [e]) s) (hs s) s) ∧ HBx τ (fU es t (es t ++ [e]) t) (hs t) t kt k := by
  obtain ⟨F, H, B, E1, E2, E3, E4, E5, E6, E7⟩ := M
  obtain ⟨t0, t1, _⟩ := H.1 t ht
  obtain ⟨e0, e1, e2⟩ := E5 e List.mem_cons_self
  obtain ⟨ne, ndf⟩ := List.nodup_cons.mp E4
  obtain ⟨A1, A2, _⟩ := mf_FX fr ⟨rfl, rfl, rfl, rfl, rfl, rfl⟩
  have i130 : ∀ m, sI τ 130 m = sI σ 130 m := fun m => mf_I fr rfl
  have b212 : ∀ x, 0 ≤ x → x ≠ e → sI τ 212 x = sI σ 212 x := fun x x0 c => by rw [a212 x x0, if_neg c]
  have b213 : ∀ x, 0 ≤ x → x ≠ e → sJ τ 213 x = sJ σ 213 x := fun x x0 c => by rw [a213 x x0, if_neg c]
  have b214 : ∀ x, 0 ≤ x → x ≠ e → sI τ 214 x = sI σ 214 x := fun x x0 c => by rw [a214 x x0, if_neg c]
  have b216 : ∀ x, 0 ≤ x → x ≠ e → sI τ 216 x = sI σ 216 x := fun x x0 c => by rw [a216 x x0, if_neg c]
  have b218 : ∀ x, 0 ≤ x → x ≠ e → sI τ 218 x = sI σ 218 x := fun x x0 c => by rw [a218 x x0, if_neg c]
  have d212 : sI τ 212 e = kt := by rw [a212 e e0, if_pos rfl]
  have d213 : sJ τ 213 e = k := by rw [a213 e e0, if_pos rfl]
  have d214 : sI τ 214 e = tag := by rw [a214 e e0, if_pos rfl]
  have d216 : sI τ 216 e = t := by rw [a216 e e0, if_pos rfl]
  have d218 : sI τ 218 e = sI σ 221 p := by rw [a218 e e0, if_pos rfl]
  have kok : ∀ a b, k_ok τ a b ↔ k_ok σ a b := fun a b => by simp only [k_ok, A1]
  have keq : ∀ a b c d, k_eq τ a b c d ↔ k_eq σ a b c d := fun a b c d => by simp only [k_eq, A2]
  have pf : ∀ a b c, pilf τ a b c = pilf σ a b c := fun a b c => by simp only [pilf, i130]
  have pr := @pilf_rng σ t kt k
  rw [hp] at pr
  obtain ⟨p0, p1⟩ := pr
  -- members
  have old : ∀ s, s ∈ ts → ∀ x, x ∈ es s → 0 ≤ x ∧ x ≠ e := fun s hs' x hx => ⟨(F.1 s hs' x hx).1, fun q => e2 s hs' (by rw [← q]; exact hx)⟩
  have mem : ∀ s, s ∈ ts → ∀ x, x ∈ fU es t (es t ++ [e]) s → x ∈ es s ∨ (s = t ∧ x = e) := fun s hs' x hx => by
    by_cases c : s = t
    · subst c
      rw [fU_s] at hx
      rcases List.mem_append.mp hx with q | q
      · exact .inl q
      · exact .inr ⟨rfl, by simpa using q⟩
    · rw [fU_o c] at hx; exact .inl hx
  have sup : ∀ s x, x ∈ es s → x ∈ fU es t (es t ++ [e]) s := fun s x hx => by
    by_cases c : s = t
    · subst c; rw [fU_s]; simp [hx]
    · rw [fU_o c]; exact hx
  have eme : e ∈ fU es t (es t ++ [e]) t := by rw [fU_s]; simp
  have alo : ∀ s, s ∈ ts → ∀ x, x ∈ es s → alv τ x = alv σ x := fun s hs' x hx => by
    simp only [alv]; rw [b214 x (old s hs' x hx).1 (old s hs' x hx).2]
  have ale : alv τ e = true := by simp only [alv]; rw [d214]; simp [htag]
  -- lvn
  have lvo : ∀ s, s ∈ ts → ∀ j, lvn τ (es s) j ↔ lvn σ (es s) j := fun s hs' j => by
    constructor
    · rintro ⟨x, x1, x2, x3, x4⟩
      obtain ⟨o1, o2⟩ := old s hs' x x1
      rw [b212 x o1 o2] at x2; rw [b213 x o1 o2] at x3; rw [b214 x o1 o2] at x4
      exact ⟨x, x1, x2, x3, x4⟩
    · rintro ⟨x, x1, x2, x3, x4⟩
      obtain ⟨o1, o2⟩ := old s hs' x x1
      exact ⟨x, x1, by rw [b212 x o1 o2]; exact x2, by rw [b213 x o1 o2]; exact x3, by rw [b214 x o1 o2]; exact x4⟩
  have k204 : ∀ x, sI τ 204 x = sI σ 204 x := fun x => mf_I fr rfl
  have b201 : ∀ x, sI τ 201 x = sI σ 201 x := fun x => mf_I fr rfl
  refine ⟨⟨fun s hs' x hx => ?_, fun q q0 q1 => ?_, fun s hs' x y hx hy kq => ?_⟩, ⟨E1, fun s hs' => ?_, ?_, ndf, fun x hx => ?_, ?_, ?_⟩, ⟨fun s hs' => ?_, ?_, H.2.2.1, H.2.2.2.1, H.2.2.2.2.1, H.2.2.2.2.2⟩, fun s hs' c => ?_, ?_⟩
  · rcases mem s hs' x hx with q | ⟨q1, q2⟩
    · obtain ⟨o1, o2⟩ := old s hs' x q
      obtain ⟨w1, w2, w3, w4⟩ := F.1 s hs' x q
      rw [b212 x o1 o2, b213 x o1 o2, b216 x o1 o2, kok]
      exact ⟨w1, w2, w3, w4⟩
    · subst q2
      rw [d212, d213, d216, kok]
      exact ⟨e0, e1, q1.symm, hk⟩
  · obtain ⟨u1, u2, u3⟩ := F.2.1 q q0 q1
    have om : ∀ x, x ∈ ps q → 0 ≤ x ∧ x ≠ e := fun x hx => by
      obtain ⟨⟨s, s1, s2⟩, _⟩ := (u3 x).mp hx
      exact old s s1 x s2
    have sg : seg (sI τ 218) (sI σ 221 q) (ps q) (-1) := seg_congr u1 (fun x hx => b218 x (om x hx).1 (om x hx).2)
    have pe : ∀ x, 0 ≤ x → x ≠ e → pilf τ (sI τ 216 x) (sI τ 212 x) (sJ τ 213 x) = pilf σ (sI σ 216 x) (sI σ 212 x) (sJ σ 213 x) := fun x o1 o2 => by rw [pf, b216 x o1 o2, b212 x o1 o2, b213 x o1 o2]
    by_cases c : q = p
    · subst c
      rw [fU_s, a221 q q0, if_pos rfl]
      refine ⟨⟨rfl, by rw [d218]; exact sg⟩, List.nodup_cons.mpr ⟨fun w => (om e w).2 rfl, u2⟩, fun x => ?_⟩
      rw [List.mem_cons]
      constructor
      · rintro (w | w)
        · subst w
          exact ⟨⟨t, ht, eme⟩, by rw [pf, d212, d213, d216]; exact hp⟩
        · obtain ⟨⟨s, s1, s2⟩, s3⟩ := (u3 x).mp w
          exact ⟨⟨s, s1, sup s x s2⟩, by rw [pe x (om x w).1 (om x w).2]; exact s3⟩
      · rintro ⟨⟨s, s1, s2⟩, s3⟩
        rcases mem s s1 x s2 with w | ⟨_, w⟩
        · obtain ⟨o1, o2⟩ := old s s1 x w
          rw [pe x o1 o2] at s3
          exact .inr ((u3 x).mpr ⟨⟨s, s1, w⟩, s3⟩)
        · exact .inl w
    · rw [fU_o c, a221 q q0, if_neg c]
      refine ⟨sg, u2, fun x => ?_⟩
      constructor
      · intro w
        obtain ⟨⟨s, s1, s2⟩, s3⟩ := (u3 x).mp w
        exact ⟨⟨s, s1, sup s x s2⟩, by rw [pe x (om x w).1 (om x w).2]; exact s3⟩
      · rintro ⟨⟨s, s1, s2⟩, s3⟩
        rcases mem s s1 x s2 with w | ⟨_, w⟩
        · obtain ⟨o1, o2⟩ := old s s1 x w
          rw [pe x o1 o2] at s3
          exact (u3 x).mpr ⟨⟨s, s1, w⟩, s3⟩
        · subst w
          rw [pf, d212, d213, d216, hp] at s3
          exact absurd s3.symm c
  · rw [keq] at kq
    rcases mem s hs' x hx with q | ⟨q1, q2⟩
    · obtain ⟨o1, o2⟩ := old s hs' x q
      rw [b212 x o1 o2, b213 x o1 o2] at kq
      rcases mem s hs' y hy with w | ⟨w1, w2⟩
      · obtain ⟨v1, v2⟩ := old s hs' y w
        rw [b212 y v1 v2, b213 y v1 v2] at kq
        exact F.2.2 s hs' x y q w kq
      · subst w2; subst w1
        rw [d212, d213] at kq
        exact absurd kq (no x q)
    · subst q2; subst q1
      rw [d212, d213] at kq
      rcases mem s hs' y hy with w | ⟨_, w2⟩
      · obtain ⟨v1, v2⟩ := old s hs' y w
        rw [b212 y v1 v2, b213 y v1 v2] at kq
        exact absurd (keq_sym kq) (no y w)
      · exact w2.symm
  · obtain ⟨z1, z2, z3, z4, z5⟩ := E2 s hs'
    have s0 := (H.1 s hs').1
    by_cases c : s = t
    · subst c
      rw [fU_s]
      have ndn : (es s ++ [e]).Nodup := by
        rw [List.nodup_append]
        exact ⟨z3, by simp, fun a ha b hb q => e2 s hs' (by simp at hb; rw [← hb, ← q]; exact ha)⟩
      have len := nd_len (M := 20000) _ z3 (fun x hx => ⟨(F.1 s hs' x hx).1, by have := (F.1 s hs' x hx).2.1; rw [tI_lt] at this; exact this⟩)
      have lf := List.length_filter_le (alv σ) (es s)
      have fc : (es s).filter (alv τ) = (es s).filter (alv σ) := List.filter_congr (fun x hx => alo s hs' x hx)
      have fd' : (es s).filter (fun x => !alv τ x) = (es s).filter (fun x => !alv σ x) := List.filter_congr (fun x hx => by rw [alo s hs' x hx])
      refine ⟨?_, by rw [a198 s s0, if_pos rfl]; simp, ndn, ?_, ?_⟩
      · by_cases l : sI σ 198 s = -1
        · have en : es s = [] := by
            rcases List.eq_nil_or_concat (es s) with q | ⟨l', w, q⟩
            · exact q
            · have wm : w ∈ es s := by rw [q]; simp
              rw [z2, q] at l
              simp at l
              have := (F.1 s hs' w wm).1
              rw [l] at this
              exact absurd this (by decide)
          rw [en, a197 s s0, if_pos ⟨rfl, l⟩]
          exact ⟨rfl, a217⟩
        · have nk : es s ≠ [] := fun q => l (by rw [z2, q]; rfl)
          rw [a197 s s0, if_neg (fun q => l q.2)]
          exact seg_end z1 z2 nk ndn (c217 l) a217 (fun x hx xl => b217 x (old s hs' x hx).1 (old s hs' x hx).2 xl)
      · rw [a199 s s0, if_pos rfl, List.filter_append, fc, List.length_append]
        simp only [List.filter_cons, ale, if_true, List.filter_nil, List.length_cons, List.length_nil]
        rw [tI_add] <;> simp only [show (1 : Int32).toInt = 1 from rfl] <;> omega
      · rw [mf_I fr rfl, List.filter_append, fd', List.length_append]
        simp only [List.filter_cons, ale, Bool.not_true, if_false, List.filter_nil, List.length_nil]
        rw [z5]; simp
    · rw [fU_o c]
      have lt : sI σ 198 t ∈ es t ∨ sI σ 198 t = -1 := by
        obtain ⟨_, y2, _⟩ := E2 t ht
        rcases List.eq_nil_or_concat (es t) with q | ⟨l', w, q⟩
        · right; rw [y2, q]; rfl
        · left; rw [y2, q]; simp
      have nl : ∀ x, x ∈ es s → x ≠ sI σ 198 t := fun x hx q => by
        rcases lt with w | w
        · exact c (by rw [← (F.1 s hs' x hx).2.2.1, q]; exact (F.1 t ht _ w).2.2.1)
        · have := (F.1 s hs' x hx).1
          rw [q, w] at this
          exact absurd this (by decide)
      refine ⟨?_, by rw [a198 s s0, if_neg c]; exact z2, z3, ?_, ?_⟩
      · rw [a197 s s0, if_neg (fun q => c q.1)]
        exact seg_congr z1 (fun x hx => b217 x (old s hs' x hx).1 (old s hs' x hx).2 (nl x hx))
      · rw [a199 s s0, if_neg c, z4, List.filter_congr (fun x hx => alo s hs' x hx)]
      · rw [mf_I fr rfl, z5]
        congr 2
        exact (List.filter_congr (fun x hx => by rw [alo s hs' x hx])).symm
  · rw [f219]
    refine seg_congr E3.2 (fun x hx => ?_)
    obtain ⟨x0, _, x2⟩ := E5 x (List.mem_cons_of_mem _ hx)
    refine b217 x x0 (fun q => ne (by rw [← q]; exact hx)) (fun q => ?_)
    obtain ⟨_, y2, _⟩ := E2 t ht
    rcases List.eq_nil_or_concat (es t) with w | ⟨l', w', w⟩
    · rw [y2, w] at q
      rw [q] at x0
      exact absurd x0 (by decide)
    · exact x2 t ht (by rw [q, y2, w]; simp)
  · obtain ⟨x0, x1, x2⟩ := E5 x (List.mem_cons_of_mem _ hx)
    refine ⟨x0, x1, fun s hs' q => ?_⟩
    rcases mem s hs' x q with w | ⟨_, w⟩
    · exact x2 s hs' w
    · exact ne (by rw [← w]; exact hx)
  · rw [f220]
    have r := tI_rng (sF σ 220)
    simp only [List.length_cons] at E6
    rw [tI_add] <;> simp only [show (1 : Int32).toInt = 1 from rfl] <;> omega
  · rw [f220]
    have r := tI_rng (sF σ 220)
    simp only [List.length_cons] at E6
    have sm := sum_upd (f := fun s => (es s).length) (t := t) (v := (es t ++ [e]).length) E1 ht
    have ef : (fun s => (fU es t (es t ++ [e]) s).length) = fU (fun s => (es s).length) t (es t ++ [e]).length := by
      funext s
      simp only [fU]
      split <;> rfl
    rw [ef]
    simp only [List.length_append, List.length_cons, List.length_nil] at sm ⊢
    rw [tI_add] <;> simp only [show (1 : Int32).toInt = 1 from rfl] <;> omega
  · obtain ⟨s0, s1, ⟨n, hpn⟩, cs, nds, rgs, ihs⟩ := H.1 s hs'
    have g : ∀ k, hE k = false → sI τ k = sI σ k := fun k hk => by funext m; exact mf_I fr hk
    refine ⟨s0, s1, ⟨n, by rw [g 205 rfl, g 206 rfl, g 204 rfl, g 202 rfl]; exact hpn⟩, by rw [g 203 rfl]; exact cs, nds, fun x hx => by rw [g 204 rfl]; exact rgs x hx, fun x hx hne => ?_⟩
    rcases mem s hs' x hx with w | ⟨_, w⟩
    · obtain ⟨o1, o2⟩ := old s hs' x w
      rw [a208 x o1, if_neg o2] at hne
      rw [b212 x o1 o2, b213 x o1 o2, g 204 rfl]
      exact ihs x w hne
    · subst w
      rw [a208 x e0, if_pos rfl] at hne
      exact absurd rfl hne
  · have g : sI τ 205 = sI σ 205 := by funext m; exact mf_I fr rfl
    rw [g, mf_F fr rfl]
    exact H.2.1
  · rw [fU_o c]
    obtain ⟨q1, q2, q3, q4⟩ := B s hs'
    refine ⟨by rw [b201]; exact q1, by rw [b201]; exact q2, ?_, by rw [b201, lvo s hs']; exact q4⟩
    rw [b201]
    intro j j0 j1 j2 q
    rw [lvo s hs'] at q
    obtain ⟨x, x1, x2⟩ := q3 j j0 j1 j2 q
    exact ⟨x, x1, by rw [k204]; exact x2⟩
  · rw [fU_s]
    obtain ⟨q1, q2, q3, q4⟩ := B t ht
    have lv : ∀ j, ¬ (kt = 3 ∧ k = Int32.toInt64 j) → (lvn τ (es t ++ [e]) j ↔ lvn σ (es t) j) := fun j hj => by
      rw [← lvo t ht]
      constructor
      · rintro ⟨x, x1, x2, x3, x4⟩
        rcases List.mem_append.mp x1 with w | w
        · exact ⟨x, w, x2, x3, x4⟩
        · have : x = e := by simpa using w
          subst this
          rw [d212] at x2; rw [d213] at x3
          exact absurd ⟨x2, x3⟩ hj
      · rintro ⟨x, x1, x2⟩
        exact ⟨x, by simp [x1], x2⟩
    refine ⟨by rw [b201]; exact q1, by rw [b201]; exact q2, ?_, ?_⟩
    · rw [b201]
      intro j j0 j1 j2 q
      rw [lv j j2] at q
      obtain ⟨x, x1, x2⟩ := q3 j j0 j1 (by lia) q
      exact ⟨x, x1, by rw [k204]; exact x2⟩
    · rw [b201]
      intro j2
      rw [lv _ j2]; exact q4
