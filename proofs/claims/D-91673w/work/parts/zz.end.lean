/-! the end -/
theorem zz_end : True := trivial
