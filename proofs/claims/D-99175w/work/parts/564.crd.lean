/-! PURE 104: riders come (the class) -/
section crd
variable {σ τ υ : Hp} {V : VS} {P : Pk} {a : HS} {n0 k : Nat} {f : Nat → LN}
theorem c_rdStep (x : CX τ (rdP P f k) (rdA P.n a k)) (h8 : P.n + (k + 1) ≤ 8) (hf : ∀ j, lnOK (f j)) (hL : LC τ P.n k (f k)) (hp : POK P) (hok : HOK P.n a) {c : Int32} (hc : c = nI a.ill) : CX (wI (wI (wI (wI (wI (wI τ 7 (P.n + k) (nI (f k).1)) 8 (P.n + k) (nI (f k).2.1)) 9 (P.n + k) (nI (f k).2.2)) 3 (P.n + k) 0) 1 2 c) 0 5 (nI (P.n + (k + 1)))) (rdP P f (k + 1)) (rdA P.n a (k + 1)) := by
  have g : Fr [1, 3, 7, 8, 9] [5] [] τ (wI (wI (wI (wI (wI (wI τ 7 (P.n + k) (nI (f k).1)) 8 (P.n + k) (nI (f k).2.1)) 9 (P.n + k) (nI (f k).2.2)) 3 (P.n + k) 0) 1 2 c) 0 5 (nI (P.n + (k + 1)))) := (((((Fr.refl.putI rfl).putI rfl).putI rfl).putI rfl).putI rfl).putI rfl
  have s := g.sh x.s rfl
  obtain ⟨p1, p2, p3, p4, p5⟩ := x.2.1
  obtain ⟨⟨q1, q2, q3, q4, q5, q6, q7⟩, q8, q9, q10, q11, q12, q13⟩ := x.2.2.2.1
  refine ⟨s, ⟨hi_eq, (g.i rfl).trans p2, (g.i rfl).trans p3, fun r hr' => ?_, p5.nk (g.nk x.s rfl) (g.r rfl)⟩, rdP_ok hp h8 hf, ⟨⟨g.ok q1, (g.r rfl).trans q2, (g.r rfl).trans q3, g.ok q4, by rw [g.k]; exact q5, g.ok q6, by rw [g.k]; exact q7⟩, fun j hj => (g.i rfl).trans (q8 j hj), fun r hr' => ?_, ?_, ?_, ?_, ?_⟩, rdA_ok hok⟩
  · have hr2 : r < P.n + (k + 1) := hr'
    rw [hi_ne (show 7 ≠ 0 by decide), hi_ne (show 7 ≠ 1 by decide), hi_ne (show 7 ≠ 3 by decide), hi_ne (show 7 ≠ 9 by decide), hi_ne (show 7 ≠ 8 by decide), hi_ne (show 8 ≠ 0 by decide), hi_ne (show 8 ≠ 1 by decide), hi_ne (show 8 ≠ 3 by decide), hi_ne (show 8 ≠ 9 by decide), hi_ne (show 9 ≠ 0 by decide), hi_ne (show 9 ≠ 1 by decide), hi_ne (show 9 ≠ 3 by decide)]
    show _ = nI (ext P.most P.n (k + 1) (fun j => (f j).1) r) ∧ _ = nI (ext P.width P.n (k + 1) (fun j => (f j).2.1) r) ∧ _ = nI (ext P.can P.n (k + 1) (fun j => (f j).2.2) r)
    by_cases e : r = P.n + k
    · subst e
      rw [ext_at, ext_at, ext_at, hi_eq, hi_eq, hi_eq]
      exact ⟨rfl, rfl, rfl⟩
    · rw [ext_lt (by omega), ext_lt (by omega), ext_lt (by omega), hi_ni e, hi_ni e, hi_ni e, hi_ne (show 8 ≠ 7 by decide), hi_ne (show 9 ≠ 8 by decide), hi_ne (show 9 ≠ 7 by decide)]
      exact p4 r (show r < P.n + k by omega)
  · show hi _ 3 r = if P.n ≤ r ∧ r < P.n + (k + 1) then 0 else a.tired r
    have q9' : hi τ 3 r = if P.n ≤ r ∧ r < P.n + k then 0 else a.tired r := q9 r hr'
    rw [hi_ne (show 3 ≠ 0 by decide), hi_ne (show 3 ≠ 1 by decide)]
    by_cases e : r = P.n + k
    · subst e; rw [hi_eq, if_pos (by omega)]
    · rw [hi_ni e, hi_ne (show 3 ≠ 9 by decide), hi_ne (show 3 ≠ 8 by decide), hi_ne (show 3 ≠ 7 by decide), q9']
      by_cases e2 : P.n ≤ r ∧ r < P.n + k
      · rw [if_pos e2, if_pos (by omega)]
      · rw [if_neg e2, if_neg (by omega)]
  · rw [hi_ne (show 1 ≠ 0 by decide), hi_eq, hc]; rfl
  · rw [hi_ne (show 1 ≠ 0 by decide), hi_ni (show 3 ≠ 2 by decide), hi_ne (show 1 ≠ 3 by decide), hi_ne (show 1 ≠ 9 by decide), hi_ne (show 1 ≠ 8 by decide), hi_ne (show 1 ≠ 7 by decide)]; exact q11
  · rw [hi_ne (show 1 ≠ 0 by decide), hi_ni (show 4 ≠ 2 by decide), hi_ne (show 1 ≠ 3 by decide), hi_ne (show 1 ≠ 9 by decide), hi_ne (show 1 ≠ 8 by decide), hi_ne (show 1 ≠ 7 by decide)]; exact q12
  · rw [hi_ne (show 1 ≠ 0 by decide), hi_ni (show 5 ≠ 2 by decide), hi_ne (show 1 ≠ 3 by decide), hi_ne (show 1 ≠ 9 by decide), hi_ne (show 1 ≠ 8 by decide), hi_ne (show 1 ≠ 7 by decide)]; exact q13
end crd
