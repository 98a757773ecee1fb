/-! the model's closed: its statics do not care for the references of M+10789 -/
-- needs: en.mtimes2
set_option maxRecDepth 100000
set_option linter.unusedVariables false
section MCO
variable {M N : Nat} {S S' : Stat} {s : Cst}
set_option maxHeartbeats 8000000 in
theorem mfx.mn (h : mfx S M) (e : mnS M S S') : mfx S' M := by
  obtain ⟨h1, h2, -⟩ := e
  have e : mfx S' M = mfx S M := by
    unfold mfx mdS mvS sgS anS mrS mthS mtS muS mhS msS plS wkS mgS mS mwS mcS mpS smS nmS wS
    simp +contextual (disch := omega) only [h1, h2]
  rw [e]; exact h
end MCO
